set_option maxRecDepth 100000
/-! java/util/AbstractCollection -/
def RJ0 : String := "java/util/AbstractCollection"
abbrev cJ0_init : ByteArray := prog_32_method_1_code
def yJ0_init : MethodName := ⟨RJ0, "<init>", "()V"⟩
theorem q70 : (Jvm.Cond.initialized "java/util/AbstractCollection") ∈ lw_all := lw_g (lw_at lw_m1 2 rfl) rfl
theorem q120 : (Jvm.Cond.instanceMethod ({ cls := "java/util/AbstractCollection", name := "<init>", desc := "()V" } : Jvm.MethodName)) ∈ lw_all := lw_g (lw_at lw_m1 52 rfl) rfl
theorem q121 : (Jvm.Cond.code ({ cls := "java/util/AbstractCollection", name := "<init>", desc := "()V" } : Jvm.MethodName) prog_32_method_1_code (1 : Nat) (Option.none : Option Jvm.ClassFile.FieldType)) ∈ lw_all := lw_g (lw_at lw_m1 53 rfl) rfl
theorem q122 : (Jvm.Cond.methodLink "java/util/AbstractCollection" (1 : Nat) ({ cls := "java/lang/Object", name := "<init>", desc := "()V" } : Jvm.MethodName)) ∈ lw_all := lw_g (lw_at lw_m1 54 rfl) rfl
/-! java/util/AbstractList -/
def RJ1 : String := "java/util/AbstractList"
abbrev cJ1_init : ByteArray := prog_33_method_1_code
def yJ1_init : MethodName := ⟨RJ1, "<init>", "()V"⟩
theorem q71 : (Jvm.Cond.initialized "java/util/AbstractList") ∈ lw_all := lw_g (lw_at lw_m1 3 rfl) rfl
theorem q117 : (Jvm.Cond.instanceMethod ({ cls := "java/util/AbstractList", name := "<init>", desc := "()V" } : Jvm.MethodName)) ∈ lw_all := lw_g (lw_at lw_m1 49 rfl) rfl
theorem q118 : (Jvm.Cond.code ({ cls := "java/util/AbstractList", name := "<init>", desc := "()V" } : Jvm.MethodName) prog_33_method_1_code (1 : Nat) (Option.none : Option Jvm.ClassFile.FieldType)) ∈ lw_all := lw_g (lw_at lw_m1 50 rfl) rfl
theorem q119 : (Jvm.Cond.methodLink "java/util/AbstractList" (1 : Nat) ({ cls := "java/util/AbstractCollection", name := "<init>", desc := "()V" } : Jvm.MethodName)) ∈ lw_all := lw_g (lw_at lw_m1 51 rfl) rfl
theorem q127 : (Jvm.Cond.fieldLink "java/util/AbstractList" (7 : Nat) "java/util/AbstractList" "modCount" "I") ∈ lw_all := lw_g (lw_at lw_m1 59 rfl) rfl
theorem q135 : (Jvm.Cond.soleField "java/util/AbstractList" "modCount") ∈ lw_all := lw_g (lw_at lw_m1 67 rfl) rfl
/-! java/util/ArrayList -/
def RJ2 : String := "java/util/ArrayList"
def TJ2 : u_T := fun k => match k with
  | 0 => ("java/util/AbstractList", "modCount", "I", false)
  | 1 => ("java/util/ArrayList", "elementData", "[Ljava/lang/Object;", false)
  | _ => ("java/util/ArrayList", "size", "I", false)
def tyJ2 : Nat → FieldType := fun k => match k with
  | 0 => .int
  | 1 => .array (.object "java/lang/Object")
  | _ => .int
abbrev wsJ20 : List Cond := u_ws RJ2 TJ2 3
theorem nmJ2 : ∀ a, a < 3 → ∀ b, b < 3 → a ≠ b → (TJ2 a).2.1 ≠ (TJ2 b).2.1 := by decide +kernel
theorem tyJ2_ok : ∀ k, k < 3 → parseFieldDescriptor (TJ2 k).2.2.1 = some (tyJ2 k) := by decide +kernel
abbrev cJ2_init : ByteArray := prog_34_method_2_code
def yJ2_init : MethodName := ⟨RJ2, "<init>", "()V"⟩
abbrev cJ2_size : ByteArray := prog_34_method_8_code
def yJ2_size : MethodName := ⟨RJ2, "size", "()I"⟩
abbrev cJ2_add : ByteArray := prog_34_method_25_code
def yJ2_add : MethodName := ⟨RJ2, "add", "(Ljava/lang/Object;)Z"⟩
abbrev cJ2_add_2 : ByteArray := prog_34_method_24_code
def yJ2_add_2 : MethodName := ⟨RJ2, "add", "(Ljava/lang/Object;[Ljava/lang/Object;I)V"⟩
abbrev cJ2_grow : ByteArray := prog_34_method_7_code
def yJ2_grow : MethodName := ⟨RJ2, "grow", "()[Ljava/lang/Object;"⟩
abbrev cJ2_grow_2 : ByteArray := prog_34_method_6_code
def yJ2_grow_2 : MethodName := ⟨RJ2, "grow", "(I)[Ljava/lang/Object;"⟩
abbrev cJ2_get : ByteArray := prog_34_method_20_code
def yJ2_get : MethodName := ⟨RJ2, "get", "(I)Ljava/lang/Object;"⟩
abbrev cJ2_elementData : ByteArray := prog_34_method_18_code
def yJ2_elementData : MethodName := ⟨RJ2, "elementData", "(I)Ljava/lang/Object;"⟩
abbrev cJ2_clear : ByteArray := prog_34_method_40_code
def yJ2_clear : MethodName := ⟨RJ2, "clear", "()V"⟩
abbrev cJ2_remove : ByteArray := prog_34_method_38_code
def yJ2_remove : MethodName := ⟨RJ2, "remove", "(Ljava/lang/Object;)Z"⟩
abbrev cJ2_fastRemove : ByteArray := prog_34_method_39_code
def yJ2_fastRemove : MethodName := ⟨RJ2, "fastRemove", "([Ljava/lang/Object;I)V"⟩
abbrev cJ2_remove_2 : ByteArray := prog_34_method_29_code
def yJ2_remove_2 : MethodName := ⟨RJ2, "remove", "(I)Ljava/lang/Object;"⟩
theorem q72 : (Jvm.Cond.initialized "java/util/ArrayList") ∈ lw_all := lw_g (lw_at lw_m1 4 rfl) rfl
theorem q112 : (Jvm.Cond.instantiable "java/util/ArrayList" (3 : Nat)) ∈ lw_all := lw_g (lw_at lw_m1 44 rfl) rfl
theorem q114 : (Jvm.Cond.instanceMethod ({ cls := "java/util/ArrayList", name := "<init>", desc := "()V" } : Jvm.MethodName)) ∈ lw_all := lw_g (lw_at lw_m1 46 rfl) rfl
theorem q115 : (Jvm.Cond.code ({ cls := "java/util/ArrayList", name := "<init>", desc := "()V" } : Jvm.MethodName) prog_34_method_2_code (1 : Nat) (Option.none : Option Jvm.ClassFile.FieldType)) ∈ lw_all := lw_g (lw_at lw_m1 47 rfl) rfl
theorem q116 : (Jvm.Cond.methodLink "java/util/ArrayList" (1 : Nat) ({ cls := "java/util/AbstractList", name := "<init>", desc := "()V" } : Jvm.MethodName)) ∈ lw_all := lw_g (lw_at lw_m1 48 rfl) rfl
theorem q123 : (Jvm.Cond.fieldLink "java/util/ArrayList" (39 : Nat) "java/util/ArrayList" "DEFAULTCAPACITY_EMPTY_ELEMENTDATA" "[Ljava/lang/Object;") ∈ lw_all := lw_g (lw_at lw_m1 55 rfl) rfl
theorem q124 : (Jvm.Cond.laysStatic "java/util/ArrayList" "DEFAULTCAPACITY_EMPTY_ELEMENTDATA" "[Ljava/lang/Object;") ∈ lw_tbl := lw_at lw_m1 56 rfl
theorem q125 : (Jvm.Cond.fieldLink "java/util/ArrayList" (9 : Nat) "java/util/ArrayList" "elementData" "[Ljava/lang/Object;") ∈ lw_all := lw_g (lw_at lw_m1 57 rfl) rfl
theorem q126 : (Jvm.Cond.fieldLink "java/util/ArrayList" (48 : Nat) "java/util/ArrayList" "size" "I") ∈ lw_all := lw_g (lw_at lw_m1 58 rfl) rfl
theorem q128 : (Jvm.Cond.fieldLink "java/util/ArrayList" (63 : Nat) "java/util/ArrayList" "modCount" "I") ∈ lw_all := lw_g (lw_at lw_m1 60 rfl) rfl
theorem q129 : (Jvm.Cond.sameField "java/util/ArrayList" "java/util/AbstractList" "modCount" "I") ∈ lw_all := lw_g (lw_at lw_m1 61 rfl) rfl
theorem q130 : (Jvm.Cond.lays "java/util/ArrayList" "java/util/ArrayList" "elementData" "[Ljava/lang/Object;") ∈ lw_all := lw_g (lw_at lw_m1 62 rfl) rfl
theorem q131 : (Jvm.Cond.soleField "java/util/ArrayList" "elementData") ∈ lw_all := lw_g (lw_at lw_m1 63 rfl) rfl
theorem q132 : (Jvm.Cond.lays "java/util/ArrayList" "java/util/ArrayList" "size" "I") ∈ lw_all := lw_g (lw_at lw_m1 64 rfl) rfl
theorem q133 : (Jvm.Cond.soleField "java/util/ArrayList" "size") ∈ lw_all := lw_g (lw_at lw_m1 65 rfl) rfl
theorem q134 : (Jvm.Cond.lays "java/util/ArrayList" "java/util/AbstractList" "modCount" "I") ∈ lw_all := lw_g (lw_at lw_m1 66 rfl) rfl
theorem q136 : (Jvm.Cond.superclass "java/util/ArrayList" "java/util/AbstractList") ∈ lw_all := lw_g (lw_at lw_m1 68 rfl) rfl
theorem q202 : (Jvm.Cond.instanceMethod ({ cls := "java/util/ArrayList", name := "size", desc := "()I" } : Jvm.MethodName)) ∈ lw_all := lw_g (lw_at lw_m1 134 rfl) rfl
theorem q203 : (Jvm.Cond.selects "java/util/ArrayList" ({ cls := "java/util/ArrayList", name := "size", desc := "()I" } : Jvm.MethodName) ({ cls := "java/util/ArrayList", name := "size", desc := "()I" } : Jvm.MethodName)) ∈ lw_all := lw_g (lw_at lw_m1 135 rfl) rfl
theorem q204 : (Jvm.Cond.code ({ cls := "java/util/ArrayList", name := "size", desc := "()I" } : Jvm.MethodName) prog_34_method_8_code (1 : Nat) (Option.some Jvm.ClassFile.FieldType.int)) ∈ lw_all := lw_g (lw_at lw_m1 136 rfl) rfl
theorem q227 : (Jvm.Cond.instanceMethod ({ cls := "java/util/ArrayList", name := "add", desc := "(Ljava/lang/Object;)Z" } : Jvm.MethodName)) ∈ lw_all := lw_g (lw_at lw_m1 159 rfl) rfl
theorem q228 : (Jvm.Cond.selects "java/util/ArrayList" ({ cls := "java/util/ArrayList", name := "add", desc := "(Ljava/lang/Object;)Z" } : Jvm.MethodName) ({ cls := "java/util/ArrayList", name := "add", desc := "(Ljava/lang/Object;)Z" } : Jvm.MethodName)) ∈ lw_all := lw_g (lw_at lw_m1 160 rfl) rfl
theorem q229 : (Jvm.Cond.code ({ cls := "java/util/ArrayList", name := "add", desc := "(Ljava/lang/Object;)Z" } : Jvm.MethodName) prog_34_method_25_code (2 : Nat) (Option.some Jvm.ClassFile.FieldType.boolean)) ∈ lw_all := lw_g (lw_at lw_m1 161 rfl) rfl
theorem q230 : (Jvm.Cond.methodLink "java/util/ArrayList" (131 : Nat) ({ cls := "java/util/ArrayList", name := "add", desc := "(Ljava/lang/Object;[Ljava/lang/Object;I)V" } : Jvm.MethodName)) ∈ lw_all := lw_g (lw_at lw_m1 162 rfl) rfl
theorem q231 : (Jvm.Cond.privateMethod ({ cls := "java/util/ArrayList", name := "add", desc := "(Ljava/lang/Object;[Ljava/lang/Object;I)V" } : Jvm.MethodName)) ∈ lw_tbl := lw_at lw_m1 163 rfl
theorem q232 : (Jvm.Cond.instanceMethod ({ cls := "java/util/ArrayList", name := "add", desc := "(Ljava/lang/Object;[Ljava/lang/Object;I)V" } : Jvm.MethodName)) ∈ lw_all := lw_g (lw_at lw_m1 164 rfl) rfl
theorem q233 : (Jvm.Cond.code ({ cls := "java/util/ArrayList", name := "add", desc := "(Ljava/lang/Object;[Ljava/lang/Object;I)V" } : Jvm.MethodName) prog_34_method_24_code (4 : Nat) (Option.none : Option Jvm.ClassFile.FieldType)) ∈ lw_all := lw_g (lw_at lw_m1 165 rfl) rfl
theorem q234 : (Jvm.Cond.methodLink "java/util/ArrayList" (129 : Nat) ({ cls := "java/util/ArrayList", name := "grow", desc := "()[Ljava/lang/Object;" } : Jvm.MethodName)) ∈ lw_all := lw_g (lw_at lw_m1 166 rfl) rfl
theorem q235 : (Jvm.Cond.privateMethod ({ cls := "java/util/ArrayList", name := "grow", desc := "()[Ljava/lang/Object;" } : Jvm.MethodName)) ∈ lw_tbl := lw_at lw_m1 167 rfl
theorem q236 : (Jvm.Cond.instanceMethod ({ cls := "java/util/ArrayList", name := "grow", desc := "()[Ljava/lang/Object;" } : Jvm.MethodName)) ∈ lw_all := lw_g (lw_at lw_m1 168 rfl) rfl
theorem q237 : (Jvm.Cond.code ({ cls := "java/util/ArrayList", name := "grow", desc := "()[Ljava/lang/Object;" } : Jvm.MethodName) prog_34_method_7_code (1 : Nat) (Option.some (Jvm.ClassFile.FieldType.array (Jvm.ClassFile.FieldType.object "java/lang/Object")))) ∈ lw_all := lw_g (lw_at lw_m1 169 rfl) rfl
theorem q238 : (Jvm.Cond.methodLink "java/util/ArrayList" (69 : Nat) ({ cls := "java/util/ArrayList", name := "grow", desc := "(I)[Ljava/lang/Object;" } : Jvm.MethodName)) ∈ lw_all := lw_g (lw_at lw_m1 170 rfl) rfl
theorem q239 : (Jvm.Cond.privateMethod ({ cls := "java/util/ArrayList", name := "grow", desc := "(I)[Ljava/lang/Object;" } : Jvm.MethodName)) ∈ lw_tbl := lw_at lw_m1 171 rfl
theorem q240 : (Jvm.Cond.instanceMethod ({ cls := "java/util/ArrayList", name := "grow", desc := "(I)[Ljava/lang/Object;" } : Jvm.MethodName)) ∈ lw_all := lw_g (lw_at lw_m1 172 rfl) rfl
theorem q241 : (Jvm.Cond.code ({ cls := "java/util/ArrayList", name := "grow", desc := "(I)[Ljava/lang/Object;" } : Jvm.MethodName) prog_34_method_6_code (4 : Nat) (Option.some (Jvm.ClassFile.FieldType.array (Jvm.ClassFile.FieldType.object "java/lang/Object")))) ∈ lw_all := lw_g (lw_at lw_m1 173 rfl) rfl
theorem q242 : (Jvm.Cond.methodLink "java/util/ArrayList" (73 : Nat) ({ cls := "jdk/internal/util/ArraysSupport", name := "newLength", desc := "(III)I" } : Jvm.MethodName)) ∈ lw_all := lw_g (lw_at lw_m1 174 rfl) rfl
theorem q252 : (Jvm.Cond.methodLink "java/util/ArrayList" (66 : Nat) ({ cls := "java/util/Arrays", name := "copyOf", desc := "([Ljava/lang/Object;I)[Ljava/lang/Object;" } : Jvm.MethodName)) ∈ lw_all := lw_g (lw_at lw_m1 184 rfl) rfl
theorem q281 : (Jvm.Cond.selects "java/util/ArrayList" ({ cls := "java/lang/Object", name := "getClass", desc := "()Ljava/lang/Class;" } : Jvm.MethodName) ({ cls := "java/lang/Object", name := "getClass", desc := "()Ljava/lang/Class;" } : Jvm.MethodName)) ∈ lw_all := lw_g (lw_at lw_m1 213 rfl) rfl
theorem q295 : (Jvm.Cond.methodLink "java/util/ArrayList" (79 : Nat) ({ cls := "java/lang/Math", name := "max", desc := "(II)I" } : Jvm.MethodName)) ∈ lw_all := lw_g (lw_at lw_m1 227 rfl) rfl
theorem q296 : (Jvm.Cond.classLink "java/util/ArrayList" (7 : Nat) "java/lang/Object") ∈ lw_all := lw_g (lw_at lw_m1 228 rfl) rfl
theorem q625 : (Jvm.Cond.instanceMethod ({ cls := "java/util/ArrayList", name := "get", desc := "(I)Ljava/lang/Object;" } : Jvm.MethodName)) ∈ lw_all := lw_g (lw_at lw_m3 77 rfl) rfl
theorem q626 : (Jvm.Cond.selects "java/util/ArrayList" ({ cls := "java/util/ArrayList", name := "get", desc := "(I)Ljava/lang/Object;" } : Jvm.MethodName) ({ cls := "java/util/ArrayList", name := "get", desc := "(I)Ljava/lang/Object;" } : Jvm.MethodName)) ∈ lw_all := lw_g (lw_at lw_m3 78 rfl) rfl
theorem q627 : (Jvm.Cond.code ({ cls := "java/util/ArrayList", name := "get", desc := "(I)Ljava/lang/Object;" } : Jvm.MethodName) prog_34_method_20_code (2 : Nat) (Option.some (Jvm.ClassFile.FieldType.object "java/lang/Object"))) ∈ lw_all := lw_g (lw_at lw_m3 79 rfl) rfl
theorem q628 : (Jvm.Cond.methodLink "java/util/ArrayList" (118 : Nat) ({ cls := "java/util/Objects", name := "checkIndex", desc := "(II)I" } : Jvm.MethodName)) ∈ lw_all := lw_g (lw_at lw_m3 80 rfl) rfl
theorem q634 : (Jvm.Cond.methodLink "java/util/ArrayList" (123 : Nat) ({ cls := "java/util/ArrayList", name := "elementData", desc := "(I)Ljava/lang/Object;" } : Jvm.MethodName)) ∈ lw_all := lw_g (lw_at lw_m3 86 rfl) rfl
theorem q635 : (Jvm.Cond.instanceMethod ({ cls := "java/util/ArrayList", name := "elementData", desc := "(I)Ljava/lang/Object;" } : Jvm.MethodName)) ∈ lw_all := lw_g (lw_at lw_m3 87 rfl) rfl
theorem q636 : (Jvm.Cond.selects "java/util/ArrayList" ({ cls := "java/util/ArrayList", name := "elementData", desc := "(I)Ljava/lang/Object;" } : Jvm.MethodName) ({ cls := "java/util/ArrayList", name := "elementData", desc := "(I)Ljava/lang/Object;" } : Jvm.MethodName)) ∈ lw_all := lw_g (lw_at lw_m3 88 rfl) rfl
theorem q637 : (Jvm.Cond.code ({ cls := "java/util/ArrayList", name := "elementData", desc := "(I)Ljava/lang/Object;" } : Jvm.MethodName) prog_34_method_18_code (2 : Nat) (Option.some (Jvm.ClassFile.FieldType.object "java/lang/Object"))) ∈ lw_all := lw_g (lw_at lw_m3 89 rfl) rfl
theorem q645 : (Jvm.Cond.instanceMethod ({ cls := "java/util/ArrayList", name := "clear", desc := "()V" } : Jvm.MethodName)) ∈ lw_all := lw_g (lw_at lw_m3 97 rfl) rfl
theorem q646 : (Jvm.Cond.selects "java/util/ArrayList" ({ cls := "java/util/ArrayList", name := "clear", desc := "()V" } : Jvm.MethodName) ({ cls := "java/util/ArrayList", name := "clear", desc := "()V" } : Jvm.MethodName)) ∈ lw_all := lw_g (lw_at lw_m3 98 rfl) rfl
theorem q647 : (Jvm.Cond.code ({ cls := "java/util/ArrayList", name := "clear", desc := "()V" } : Jvm.MethodName) prog_34_method_40_code (4 : Nat) (Option.none : Option Jvm.ClassFile.FieldType)) ∈ lw_all := lw_g (lw_at lw_m3 99 rfl) rfl
theorem q979 : (Jvm.Cond.instanceMethod ({ cls := "java/util/ArrayList", name := "remove", desc := "(Ljava/lang/Object;)Z" } : Jvm.MethodName)) ∈ lw_all := lw_g (lw_at lw_m4 191 rfl) rfl
theorem q980 : (Jvm.Cond.selects "java/util/ArrayList" ({ cls := "java/util/ArrayList", name := "remove", desc := "(Ljava/lang/Object;)Z" } : Jvm.MethodName) ({ cls := "java/util/ArrayList", name := "remove", desc := "(Ljava/lang/Object;)Z" } : Jvm.MethodName)) ∈ lw_all := lw_g (lw_at lw_m4 192 rfl) rfl
theorem q981 : (Jvm.Cond.code ({ cls := "java/util/ArrayList", name := "remove", desc := "(Ljava/lang/Object;)Z" } : Jvm.MethodName) prog_34_method_38_code (5 : Nat) (Option.some Jvm.ClassFile.FieldType.boolean)) ∈ lw_all := lw_g (lw_at lw_m4 193 rfl) rfl
theorem q983 : (Jvm.Cond.methodLink "java/util/ArrayList" (93 : Nat) ({ cls := "java/lang/Object", name := "equals", desc := "(Ljava/lang/Object;)Z" } : Jvm.MethodName)) ∈ lw_all := lw_g (lw_at lw_m4 195 rfl) rfl
theorem q1010 : (Jvm.Cond.methodLink "java/util/ArrayList" (144 : Nat) ({ cls := "java/util/ArrayList", name := "fastRemove", desc := "([Ljava/lang/Object;I)V" } : Jvm.MethodName)) ∈ lw_all := lw_g (lw_at lw_m4 222 rfl) rfl
theorem q1011 : (Jvm.Cond.privateMethod ({ cls := "java/util/ArrayList", name := "fastRemove", desc := "([Ljava/lang/Object;I)V" } : Jvm.MethodName)) ∈ lw_tbl := lw_at lw_m4 223 rfl
theorem q1012 : (Jvm.Cond.instanceMethod ({ cls := "java/util/ArrayList", name := "fastRemove", desc := "([Ljava/lang/Object;I)V" } : Jvm.MethodName)) ∈ lw_all := lw_g (lw_at lw_m4 224 rfl) rfl
theorem q1013 : (Jvm.Cond.code ({ cls := "java/util/ArrayList", name := "fastRemove", desc := "([Ljava/lang/Object;I)V" } : Jvm.MethodName) prog_34_method_39_code (4 : Nat) (Option.none : Option Jvm.ClassFile.FieldType)) ∈ lw_all := lw_g (lw_at lw_m4 225 rfl) rfl
theorem q1014 : (Jvm.Cond.methodLink "java/util/ArrayList" (112 : Nat) ({ cls := "java/lang/System", name := "arraycopy", desc := "(Ljava/lang/Object;ILjava/lang/Object;II)V" } : Jvm.MethodName)) ∈ lw_all := lw_g (lw_at lw_m4 226 rfl) rfl
theorem q1230 : (Jvm.Cond.instanceMethod ({ cls := "java/util/ArrayList", name := "remove", desc := "(I)Ljava/lang/Object;" } : Jvm.MethodName)) ∈ lw_all := lw_g (lw_at lw_m5 202 rfl) rfl
theorem q1231 : (Jvm.Cond.selects "java/util/ArrayList" ({ cls := "java/util/ArrayList", name := "remove", desc := "(I)Ljava/lang/Object;" } : Jvm.MethodName) ({ cls := "java/util/ArrayList", name := "remove", desc := "(I)Ljava/lang/Object;" } : Jvm.MethodName)) ∈ lw_all := lw_g (lw_at lw_m5 203 rfl) rfl
theorem q1232 : (Jvm.Cond.code ({ cls := "java/util/ArrayList", name := "remove", desc := "(I)Ljava/lang/Object;" } : Jvm.MethodName) prog_34_method_29_code (4 : Nat) (Option.some (Jvm.ClassFile.FieldType.object "java/lang/Object"))) ∈ lw_all := lw_g (lw_at lw_m5 204 rfl) rfl
theorem q2136 : (Jvm.Cond.castable "java/util/ArrayList" "java/lang/Object") ∈ lw_tbl := lw_at lw_m9 148 rfl
theorem in_J2 : ∀ w ∈ wsJ20, w ∈ lw_all := lw_in wsJ20 [134, 130, 132] (by decide +kernel) (by decide +kernel)
/-! jdk/internal/util/ArraysSupport -/
def RJ3 : String := "jdk/internal/util/ArraysSupport"
abbrev cJ3_newLength : ByteArray := prog_41_method_27_code
def yJ3_newLength : MethodName := ⟨RJ3, "newLength", "(III)I"⟩
abbrev cJ3_hugeLength : ByteArray := prog_41_method_28_code
def yJ3_hugeLength : MethodName := ⟨RJ3, "hugeLength", "(II)I"⟩
theorem q75 : (Jvm.Cond.initialized "jdk/internal/util/ArraysSupport") ∈ lw_all := lw_g (lw_at lw_m1 7 rfl) rfl
theorem q243 : (Jvm.Cond.static ({ cls := "jdk/internal/util/ArraysSupport", name := "newLength", desc := "(III)I" } : Jvm.MethodName)) ∈ lw_all := lw_g (lw_at lw_m1 175 rfl) rfl
theorem q244 : (Jvm.Cond.code ({ cls := "jdk/internal/util/ArraysSupport", name := "newLength", desc := "(III)I" } : Jvm.MethodName) prog_41_method_27_code (4 : Nat) (Option.some Jvm.ClassFile.FieldType.int)) ∈ lw_all := lw_g (lw_at lw_m1 176 rfl) rfl
theorem q245 : (Jvm.Cond.methodLink "jdk/internal/util/ArraysSupport" (194 : Nat) ({ cls := "java/lang/Math", name := "max", desc := "(II)I" } : Jvm.MethodName)) ∈ lw_all := lw_g (lw_at lw_m1 177 rfl) rfl
theorem q248 : (Jvm.Cond.constant "jdk/internal/util/ArraysSupport" (200 : Nat) (2147483639 : Int32)) ∈ lw_all := lw_g (lw_at lw_m1 180 rfl) rfl
theorem q249 : (Jvm.Cond.methodLink "jdk/internal/util/ArraysSupport" (201 : Nat) ({ cls := "jdk/internal/util/ArraysSupport", name := "hugeLength", desc := "(II)I" } : Jvm.MethodName)) ∈ lw_all := lw_g (lw_at lw_m1 181 rfl) rfl
theorem q250 : (Jvm.Cond.static ({ cls := "jdk/internal/util/ArraysSupport", name := "hugeLength", desc := "(II)I" } : Jvm.MethodName)) ∈ lw_all := lw_g (lw_at lw_m1 182 rfl) rfl
theorem q251 : (Jvm.Cond.code ({ cls := "jdk/internal/util/ArraysSupport", name := "hugeLength", desc := "(II)I" } : Jvm.MethodName) prog_41_method_28_code (3 : Nat) (Option.some Jvm.ClassFile.FieldType.int)) ∈ lw_all := lw_g (lw_at lw_m1 183 rfl) rfl
/-! java/lang/Math -/
def RJ4 : String := "java/lang/Math"
abbrev cJ4_max : ByteArray := prog_30_method_65_code
def yJ4_max : MethodName := ⟨RJ4, "max", "(II)I"⟩
abbrev cJ4_min : ByteArray := prog_30_method_69_code
def yJ4_min : MethodName := ⟨RJ4, "min", "(II)I"⟩
abbrev cJ4_abs : ByteArray := prog_30_method_59_code
def yJ4_abs : MethodName := ⟨RJ4, "abs", "(I)I"⟩
theorem q76 : (Jvm.Cond.initialized "java/lang/Math") ∈ lw_all := lw_g (lw_at lw_m1 8 rfl) rfl
theorem q246 : (Jvm.Cond.static ({ cls := "java/lang/Math", name := "max", desc := "(II)I" } : Jvm.MethodName)) ∈ lw_all := lw_g (lw_at lw_m1 178 rfl) rfl
theorem q247 : (Jvm.Cond.code ({ cls := "java/lang/Math", name := "max", desc := "(II)I" } : Jvm.MethodName) prog_30_method_65_code (2 : Nat) (Option.some Jvm.ClassFile.FieldType.int)) ∈ lw_all := lw_g (lw_at lw_m1 179 rfl) rfl
theorem q290 : (Jvm.Cond.static ({ cls := "java/lang/Math", name := "min", desc := "(II)I" } : Jvm.MethodName)) ∈ lw_all := lw_g (lw_at lw_m1 222 rfl) rfl
theorem q291 : (Jvm.Cond.code ({ cls := "java/lang/Math", name := "min", desc := "(II)I" } : Jvm.MethodName) prog_30_method_69_code (2 : Nat) (Option.some Jvm.ClassFile.FieldType.int)) ∈ lw_all := lw_g (lw_at lw_m1 223 rfl) rfl
theorem q1161 : (Jvm.Cond.static ({ cls := "java/lang/Math", name := "abs", desc := "(I)I" } : Jvm.MethodName)) ∈ lw_all := lw_g (lw_at lw_m5 133 rfl) rfl
theorem q1162 : (Jvm.Cond.code ({ cls := "java/lang/Math", name := "abs", desc := "(I)I" } : Jvm.MethodName) prog_30_method_59_code (1 : Nat) (Option.some Jvm.ClassFile.FieldType.int)) ∈ lw_all := lw_g (lw_at lw_m5 134 rfl) rfl
/-! java/util/Arrays -/
def RJ5 : String := "java/util/Arrays"
abbrev cJ5_copyOf : ByteArray := prog_35_method_119_code
def yJ5_copyOf : MethodName := ⟨RJ5, "copyOf", "([Ljava/lang/Object;I)[Ljava/lang/Object;"⟩
abbrev cJ5_copyOf_2 : ByteArray := prog_35_method_120_code
def yJ5_copyOf_2 : MethodName := ⟨RJ5, "copyOf", "([Ljava/lang/Object;ILjava/lang/Class;)[Ljava/lang/Object;"⟩
theorem q77 : (Jvm.Cond.initialized "java/util/Arrays") ∈ lw_all := lw_g (lw_at lw_m1 9 rfl) rfl
theorem q253 : (Jvm.Cond.static ({ cls := "java/util/Arrays", name := "copyOf", desc := "([Ljava/lang/Object;I)[Ljava/lang/Object;" } : Jvm.MethodName)) ∈ lw_all := lw_g (lw_at lw_m1 185 rfl) rfl
theorem q254 : (Jvm.Cond.code ({ cls := "java/util/Arrays", name := "copyOf", desc := "([Ljava/lang/Object;I)[Ljava/lang/Object;" } : Jvm.MethodName) prog_35_method_119_code (2 : Nat) (Option.some (Jvm.ClassFile.FieldType.array (Jvm.ClassFile.FieldType.object "java/lang/Object")))) ∈ lw_all := lw_g (lw_at lw_m1 186 rfl) rfl
theorem q255 : (Jvm.Cond.methodLink "java/util/Arrays" (86 : Nat) ({ cls := "java/lang/Object", name := "getClass", desc := "()Ljava/lang/Class;" } : Jvm.MethodName)) ∈ lw_all := lw_g (lw_at lw_m1 187 rfl) rfl
theorem q283 : (Jvm.Cond.methodLink "java/util/Arrays" (300 : Nat) ({ cls := "java/util/Arrays", name := "copyOf", desc := "([Ljava/lang/Object;ILjava/lang/Class;)[Ljava/lang/Object;" } : Jvm.MethodName)) ∈ lw_all := lw_g (lw_at lw_m1 215 rfl) rfl
theorem q284 : (Jvm.Cond.static ({ cls := "java/util/Arrays", name := "copyOf", desc := "([Ljava/lang/Object;ILjava/lang/Class;)[Ljava/lang/Object;" } : Jvm.MethodName)) ∈ lw_all := lw_g (lw_at lw_m1 216 rfl) rfl
theorem q285 : (Jvm.Cond.code ({ cls := "java/util/Arrays", name := "copyOf", desc := "([Ljava/lang/Object;ILjava/lang/Class;)[Ljava/lang/Object;" } : Jvm.MethodName) prog_35_method_120_code (4 : Nat) (Option.some (Jvm.ClassFile.FieldType.array (Jvm.ClassFile.FieldType.object "java/lang/Object")))) ∈ lw_all := lw_g (lw_at lw_m1 217 rfl) rfl
theorem q286 : (Jvm.Cond.classLink "java/util/Arrays" (110 : Nat) "[Ljava/lang/Object;") ∈ lw_all := lw_g (lw_at lw_m1 218 rfl) rfl
theorem q288 : (Jvm.Cond.classLink "java/util/Arrays" (2 : Nat) "java/lang/Object") ∈ lw_all := lw_g (lw_at lw_m1 220 rfl) rfl
theorem q289 : (Jvm.Cond.methodLink "java/util/Arrays" (304 : Nat) ({ cls := "java/lang/Math", name := "min", desc := "(II)I" } : Jvm.MethodName)) ∈ lw_all := lw_g (lw_at lw_m1 221 rfl) rfl
theorem q292 : (Jvm.Cond.methodLink "java/util/Arrays" (150 : Nat) ({ cls := "java/lang/System", name := "arraycopy", desc := "(Ljava/lang/Object;ILjava/lang/Object;II)V" } : Jvm.MethodName)) ∈ lw_all := lw_g (lw_at lw_m1 224 rfl) rfl
/-! java/util/Objects -/
def RJ6 : String := "java/util/Objects"
abbrev cJ6_checkIndex : ByteArray := prog_38_method_17_code
def yJ6_checkIndex : MethodName := ⟨RJ6, "checkIndex", "(II)I"⟩
theorem q91 : (Jvm.Cond.initialized "java/util/Objects") ∈ lw_all := lw_g (lw_at lw_m1 23 rfl) rfl
theorem q629 : (Jvm.Cond.static ({ cls := "java/util/Objects", name := "checkIndex", desc := "(II)I" } : Jvm.MethodName)) ∈ lw_all := lw_g (lw_at lw_m3 81 rfl) rfl
theorem q630 : (Jvm.Cond.code ({ cls := "java/util/Objects", name := "checkIndex", desc := "(II)I" } : Jvm.MethodName) prog_38_method_17_code (2 : Nat) (Option.some Jvm.ClassFile.FieldType.int)) ∈ lw_all := lw_g (lw_at lw_m3 82 rfl) rfl
theorem q631 : (Jvm.Cond.methodLink "java/util/Objects" (105 : Nat) ({ cls := "jdk/internal/util/Preconditions", name := "checkIndex", desc := "(IILjava/util/function/BiFunction;)I" } : Jvm.MethodName)) ∈ lw_all := lw_g (lw_at lw_m3 83 rfl) rfl
/-! jdk/internal/util/Preconditions -/
def RJ7 : String := "jdk/internal/util/Preconditions"
abbrev cJ7_checkIndex : ByteArray := prog_42_method_11_code
def yJ7_checkIndex : MethodName := ⟨RJ7, "checkIndex", "(IILjava/util/function/BiFunction;)I"⟩
theorem q92 : (Jvm.Cond.initialized "jdk/internal/util/Preconditions") ∈ lw_all := lw_g (lw_at lw_m1 24 rfl) rfl
theorem q632 : (Jvm.Cond.static ({ cls := "jdk/internal/util/Preconditions", name := "checkIndex", desc := "(IILjava/util/function/BiFunction;)I" } : Jvm.MethodName)) ∈ lw_all := lw_g (lw_at lw_m3 84 rfl) rfl
theorem q633 : (Jvm.Cond.code ({ cls := "jdk/internal/util/Preconditions", name := "checkIndex", desc := "(IILjava/util/function/BiFunction;)I" } : Jvm.MethodName) prog_42_method_11_code (3 : Nat) (Option.some Jvm.ClassFile.FieldType.int)) ∈ lw_all := lw_g (lw_at lw_m3 85 rfl) rfl
/-! java/lang/Object -/
def RJ8 : String := "java/lang/Object"
abbrev cJ8_init : ByteArray := object_method_1_code
def yJ8_init : MethodName := ⟨RJ8, "<init>", "()V"⟩
abbrev cJ8_equals : ByteArray := object_method_4_code
def yJ8_equals : MethodName := ⟨RJ8, "equals", "(Ljava/lang/Object;)Z"⟩
theorem q109 : (Jvm.Cond.instanceMethod ({ cls := "java/lang/Object", name := "<init>", desc := "()V" } : Jvm.MethodName)) ∈ lw_all := lw_g (lw_at lw_m1 41 rfl) rfl
theorem q110 : (Jvm.Cond.code ({ cls := "java/lang/Object", name := "<init>", desc := "()V" } : Jvm.MethodName) object_method_1_code (1 : Nat) (Option.none : Option Jvm.ClassFile.FieldType)) ∈ lw_all := lw_g (lw_at lw_m1 42 rfl) rfl
theorem q256 : (Jvm.Cond.instanceMethod ({ cls := "java/lang/Object", name := "getClass", desc := "()Ljava/lang/Class;" } : Jvm.MethodName)) ∈ lw_all := lw_g (lw_at lw_m1 188 rfl) rfl
theorem q257 : (Jvm.Cond.sameMethod "java/lang/Object" "java/lang/Object" "getClass" "()Ljava/lang/Class;") ∈ lw_all := lw_g (lw_at lw_m1 189 rfl) rfl
theorem q282 : (Jvm.Cond.native ({ cls := "java/lang/Object", name := "getClass", desc := "()Ljava/lang/Class;" } : Jvm.MethodName)) ∈ lw_all := lw_g (lw_at lw_m1 214 rfl) rfl
theorem q982 : (Jvm.Cond.declares ({ cls := "java/lang/Object", name := "equals", desc := "(Ljava/lang/Object;)Z" } : Jvm.MethodName)) ∈ lw_tbl := lw_at lw_m4 194 rfl
theorem q984 : (Jvm.Cond.instanceMethod ({ cls := "java/lang/Object", name := "equals", desc := "(Ljava/lang/Object;)Z" } : Jvm.MethodName)) ∈ lw_all := lw_g (lw_at lw_m4 196 rfl) rfl
theorem q985 : (Jvm.Cond.sameMethod "java/lang/Object" "java/lang/Object" "equals" "(Ljava/lang/Object;)Z") ∈ lw_all := lw_g (lw_at lw_m4 197 rfl) rfl
theorem q1009 : (Jvm.Cond.code ({ cls := "java/lang/Object", name := "equals", desc := "(Ljava/lang/Object;)Z" } : Jvm.MethodName) object_method_4_code (2 : Nat) (Option.some Jvm.ClassFile.FieldType.boolean)) ∈ lw_all := lw_g (lw_at lw_m4 221 rfl) rfl
theorem q2161 : (Jvm.Cond.declares ({ cls := "java/lang/Object", name := "getClass", desc := "()Ljava/lang/Class;" } : Jvm.MethodName)) ∈ lw_tbl := lw_at lw_m9 173 rfl
/-! WaterWorks -/
def RX0 : String := "WaterWorks"
def TX0 : u_T := fun k => match k with
  | 0 => ("WaterWorks", "time", "I", false)
  | 1 => ("WaterWorks", "ordersEnded", "I", false)
  | 2 => ("WaterWorks", "stations", "Ljava/util/ArrayList;", true)
  | 3 => ("WaterWorks", "faults", "Ljava/util/ArrayList;", true)
  | 4 => ("WaterWorks", "slows", "Ljava/util/ArrayList;", true)
  | 5 => ("WaterWorks", "guards", "Ljava/util/ArrayList;", true)
  | 6 => ("WaterWorks", "row", "Ljava/util/ArrayList;", true)
  | 7 => ("WaterWorks", "towers", "Ljava/util/ArrayList;", true)
  | 8 => ("WaterWorks", "orders", "Ljava/util/ArrayList;", true)
  | 9 => ("WaterWorks", "calls", "Ljava/util/ArrayList;", true)
  | 10 => ("WaterWorks", "failures", "Ljava/util/ArrayList;", true)
  | 11 => ("WaterWorks", "effects", "Ljava/util/ArrayList;", true)
  | 12 => ("WaterWorks", "works", "Ljava/util/ArrayList;", true)
  | _ => ("WaterWorks", "alarms", "Ljava/util/ArrayList;", true)
def tyX0 : Nat → FieldType := fun k => match k with
  | 0 => .int
  | 1 => .int
  | 2 => .object "java/util/ArrayList"
  | 3 => .object "java/util/ArrayList"
  | 4 => .object "java/util/ArrayList"
  | 5 => .object "java/util/ArrayList"
  | 6 => .object "java/util/ArrayList"
  | 7 => .object "java/util/ArrayList"
  | 8 => .object "java/util/ArrayList"
  | 9 => .object "java/util/ArrayList"
  | 10 => .object "java/util/ArrayList"
  | 11 => .object "java/util/ArrayList"
  | 12 => .object "java/util/ArrayList"
  | _ => .object "java/util/ArrayList"
abbrev wsX00 : List Cond := u_ws RX0 TX0 14
theorem nmX0 : ∀ a, a < 14 → ∀ b, b < 14 → a ≠ b → (TX0 a).2.1 ≠ (TX0 b).2.1 := by decide +kernel
theorem tyX0_ok : ∀ k, k < 14 → parseFieldDescriptor (TX0 k).2.2.1 = some (tyX0 k) := by decide +kernel
abbrev cX0_init : ByteArray := prog_1_method_18_code
def yX0_init : MethodName := ⟨RX0, "<init>", "()V"⟩
abbrev cX0_station : ByteArray := prog_1_method_20_code
def yX0_station : MethodName := ⟨RX0, "station", "(III)I"⟩
abbrev cX0_in : ByteArray := prog_1_method_1_code
def yX0_in : MethodName := ⟨RX0, "in", "(III)Z"⟩
abbrev cX0_fault : ByteArray := prog_1_method_22_code
def yX0_fault : MethodName := ⟨RX0, "fault", "(IIIII)I"⟩
abbrev cX0_plan : ByteArray := prog_1_method_21_code
def yX0_plan : MethodName := ⟨RX0, "plan", "(Ljava/util/ArrayList;LWaterWorks$Plan;Z)I"⟩
abbrev cX0_has : ByteArray := prog_1_method_19_code
def yX0_has : MethodName := ⟨RX0, "has", "(Ljava/util/ArrayList;I)Z"⟩
abbrev cX0_slow : ByteArray := prog_1_method_23_code
def yX0_slow : MethodName := ⟨RX0, "slow", "(IIIII)I"⟩
abbrev cX0_guard : ByteArray := prog_1_method_26_code
def yX0_guard : MethodName := ⟨RX0, "guard", "(IIIII)I"⟩
abbrev cX0_fits : ByteArray := prog_1_method_24_code
def yX0_fits : MethodName := ⟨RX0, "fits", "(IIII)Z"⟩
abbrev cX0_made : ByteArray := prog_1_method_25_code
def yX0_made : MethodName := ⟨RX0, "made", "(I[II)LWaterWorks$Guard;"⟩
abbrev cX0_on : ByteArray := prog_1_method_27_code
def yX0_on : MethodName := ⟨RX0, "on", "(I)I"⟩
abbrev cX0_tower : ByteArray := prog_1_method_28_code
def yX0_tower : MethodName := ⟨RX0, "tower", "()I"⟩
abbrev cX0_order : ByteArray := prog_1_method_29_code
def yX0_order : MethodName := ⟨RX0, "order", "(IIIII)I"⟩
abbrev cX0_begins : ByteArray := prog_1_method_30_code
def yX0_begins : MethodName := ⟨RX0, "begins", "(IIIII)I"⟩
abbrev cX0_begin : ByteArray := prog_1_method_6_code
def yX0_begin : MethodName := ⟨RX0, "begin", "(LWaterWorks$Order;ILWaterWorks$Call;)V"⟩
abbrev cX0_beginTry : ByteArray := prog_1_method_5_code
def yX0_beginTry : MethodName := ⟨RX0, "beginTry", "(LWaterWorks$Order;ILWaterWorks$Call;I)V"⟩
abbrev cX0_add : ByteArray := prog_1_method_4_code
def yX0_add : MethodName := ⟨RX0, "add", "(LWaterWorks$Order;ILWaterWorks$Call;LWaterWorks$Guard;I)LWaterWorks$Call;"⟩
abbrev cX0_goesIn : ByteArray := prog_1_method_7_code
def yX0_goesIn : MethodName := ⟨RX0, "goesIn", "(LWaterWorks$Call;)V"⟩
abbrev cX0_failed : ByteArray := prog_1_method_3_code
def yX0_failed : MethodName := ⟨RX0, "failed", "(III)LWaterWorks$Failure;"⟩
abbrev cX0_fails : ByteArray := prog_1_method_9_code
def yX0_fails : MethodName := ⟨RX0, "fails", "(LWaterWorks$Call;LWaterWorks$Failure;)V"⟩
abbrev cX0_ended : ByteArray := prog_1_method_11_code
def yX0_ended : MethodName := ⟨RX0, "ended", "(LWaterWorks$Call;)V"⟩
abbrev cX0_alike : ByteArray := prog_1_method_10_code
def yX0_alike : MethodName := ⟨RX0, "alike", "(LWaterWorks$Call;LWaterWorks$Call;)V"⟩
abbrev cX0_good : ByteArray := prog_1_method_8_code
def yX0_good : MethodName := ⟨RX0, "good", "(LWaterWorks$Call;IZ)V"⟩
abbrev cX0_isUnder : ByteArray := prog_1_method_2_code
def yX0_isUnder : MethodName := ⟨RX0, "isUnder", "(II)Z"⟩
abbrev cX0_takeBack : ByteArray := prog_1_method_12_code
def yX0_takeBack : MethodName := ⟨RX0, "takeBack", "(LWaterWorks$Call;)I"⟩
abbrev cX0_cancel : ByteArray := prog_1_method_31_code
def yX0_cancel : MethodName := ⟨RX0, "cancel", "(I)I"⟩
abbrev cX0_second : ByteArray := prog_1_method_32_code
def yX0_second : MethodName := ⟨RX0, "second", "(I)I"⟩
abbrev cX0_pass : ByteArray := prog_1_method_17_code
def yX0_pass : MethodName := ⟨RX0, "pass", "()V"⟩
abbrev cX0_ends : ByteArray := prog_1_method_13_code
def yX0_ends : MethodName := ⟨RX0, "ends", "(LWaterWorks$Call;)V"⟩
abbrev cX0_keyed : ByteArray := prog_1_method_14_code
def yX0_keyed : MethodName := ⟨RX0, "keyed", "(II)LWaterWorks$Effect;"⟩
abbrev cX0_moves : ByteArray := prog_1_method_15_code
def yX0_moves : MethodName := ⟨RX0, "moves", "(LWaterWorks$Call;LWaterWorks$Station;I)V"⟩
abbrev cX0_dueOf : ByteArray := prog_1_method_16_code
def yX0_dueOf : MethodName := ⟨RX0, "dueOf", "(I)V"⟩
abbrev cX0_plan_2 : ByteArray := prog_1_method_33_code
def yX0_plan_2 : MethodName := ⟨RX0, "plan", "(IIIIIII)I"⟩
abbrev cX0_stop : ByteArray := prog_1_method_34_code
def yX0_stop : MethodName := ⟨RX0, "stop", "(I)I"⟩
abbrev cX0_planned : ByteArray := prog_1_method_35_code
def yX0_planned : MethodName := ⟨RX0, "planned", "(II)I"⟩
abbrev cX0_alarm : ByteArray := prog_1_method_38_code
def yX0_alarm : MethodName := ⟨RX0, "alarm", "(III)I"⟩
abbrev cX0_fuseOf : ByteArray := prog_1_method_36_code
def yX0_fuseOf : MethodName := ⟨RX0, "fuseOf", "(I)LWaterWorks$Fuse;"⟩
abbrev cX0_bulkheadOf : ByteArray := prog_1_method_37_code
def yX0_bulkheadOf : MethodName := ⟨RX0, "bulkheadOf", "(I)LWaterWorks$Bulkhead;"⟩
abbrev cX0_alarmed : ByteArray := prog_1_method_39_code
def yX0_alarmed : MethodName := ⟨RX0, "alarmed", "(II)I"⟩
abbrev cX0_now : ByteArray := prog_1_method_40_code
def yX0_now : MethodName := ⟨RX0, "now", "()I"⟩
abbrev cX0_outcome : ByteArray := prog_1_method_41_code
def yX0_outcome : MethodName := ⟨RX0, "outcome", "(I)I"⟩
abbrev cX0_of : ByteArray := prog_1_method_42_code
def yX0_of : MethodName := ⟨RX0, "of", "(II)I"⟩
abbrev cX0_failure : ByteArray := prog_1_method_43_code
def yX0_failure : MethodName := ⟨RX0, "failure", "(II)I"⟩
abbrev cX0_call : ByteArray := prog_1_method_44_code
def yX0_call : MethodName := ⟨RX0, "call", "(II)I"⟩
abbrev cX0_fuse : ByteArray := prog_1_method_45_code
def yX0_fuse : MethodName := ⟨RX0, "fuse", "(II)I"⟩
abbrev cX0_bulkhead : ByteArray := prog_1_method_46_code
def yX0_bulkhead : MethodName := ⟨RX0, "bulkhead", "(II)I"⟩
abbrev cX0_waiting : ByteArray := prog_1_method_47_code
def yX0_waiting : MethodName := ⟨RX0, "waiting", "(II)I"⟩
abbrev cX0_tokens : ByteArray := prog_1_method_48_code
def yX0_tokens : MethodName := ⟨RX0, "tokens", "(I)I"⟩
abbrev cX0_kept : ByteArray := prog_1_method_49_code
def yX0_kept : MethodName := ⟨RX0, "kept", "(III)I"⟩
abbrev cX0_joined : ByteArray := prog_1_method_50_code
def yX0_joined : MethodName := ⟨RX0, "joined", "(II)I"⟩
abbrev cX0_level : ByteArray := prog_1_method_51_code
def yX0_level : MethodName := ⟨RX0, "level", "(I)I"⟩
abbrev cX0_effect : ByteArray := prog_1_method_52_code
def yX0_effect : MethodName := ⟨RX0, "effect", "(II)I"⟩
abbrev cX0_isOf : ByteArray := prog_1_method_53_code
def yX0_isOf : MethodName := ⟨RX0, "isOf", "(II)I"⟩
abbrev cX0_count : ByteArray := prog_1_method_54_code
def yX0_count : MethodName := ⟨RX0, "count", "(I)I"⟩
theorem q69 : (Jvm.Cond.initialized "WaterWorks") ∈ lw_all := lw_g (lw_at lw_m1 1 rfl) rfl
theorem q104 : (Jvm.Cond.instantiable "WaterWorks" (14 : Nat)) ∈ lw_all := lw_g (lw_at lw_m1 36 rfl) rfl
theorem q106 : (Jvm.Cond.instanceMethod ({ cls := "WaterWorks", name := "<init>", desc := "()V" } : Jvm.MethodName)) ∈ lw_all := lw_g (lw_at lw_m1 38 rfl) rfl
theorem q107 : (Jvm.Cond.code ({ cls := "WaterWorks", name := "<init>", desc := "()V" } : Jvm.MethodName) prog_1_method_18_code (1 : Nat) (Option.none : Option Jvm.ClassFile.FieldType)) ∈ lw_all := lw_g (lw_at lw_m1 39 rfl) rfl
theorem q108 : (Jvm.Cond.methodLink "WaterWorks" (257 : Nat) ({ cls := "java/lang/Object", name := "<init>", desc := "()V" } : Jvm.MethodName)) ∈ lw_all := lw_g (lw_at lw_m1 40 rfl) rfl
theorem q111 : (Jvm.Cond.classLink "WaterWorks" (14 : Nat) "java/util/ArrayList") ∈ lw_all := lw_g (lw_at lw_m1 43 rfl) rfl
theorem q113 : (Jvm.Cond.methodLink "WaterWorks" (151 : Nat) ({ cls := "java/util/ArrayList", name := "<init>", desc := "()V" } : Jvm.MethodName)) ∈ lw_all := lw_g (lw_at lw_m1 45 rfl) rfl
theorem q144 : (Jvm.Cond.fieldLink "WaterWorks" (19 : Nat) "WaterWorks" "time" "I") ∈ lw_all := lw_g (lw_at lw_m1 76 rfl) rfl
theorem q146 : (Jvm.Cond.fieldLink "WaterWorks" (148 : Nat) "WaterWorks" "ordersEnded" "I") ∈ lw_all := lw_g (lw_at lw_m1 78 rfl) rfl
theorem q148 : (Jvm.Cond.fieldLink "WaterWorks" (45 : Nat) "WaterWorks" "stations" "Ljava/util/ArrayList;") ∈ lw_all := lw_g (lw_at lw_m1 80 rfl) rfl
theorem q149 : (Jvm.Cond.fieldLink "WaterWorks" (169 : Nat) "WaterWorks" "faults" "Ljava/util/ArrayList;") ∈ lw_all := lw_g (lw_at lw_m1 81 rfl) rfl
theorem q150 : (Jvm.Cond.fieldLink "WaterWorks" (60 : Nat) "WaterWorks" "slows" "Ljava/util/ArrayList;") ∈ lw_all := lw_g (lw_at lw_m1 82 rfl) rfl
theorem q152 : (Jvm.Cond.fieldLink "WaterWorks" (223 : Nat) "WaterWorks" "guards" "Ljava/util/ArrayList;") ∈ lw_all := lw_g (lw_at lw_m1 84 rfl) rfl
theorem q153 : (Jvm.Cond.fieldLink "WaterWorks" (260 : Nat) "WaterWorks" "row" "Ljava/util/ArrayList;") ∈ lw_all := lw_g (lw_at lw_m1 85 rfl) rfl
theorem q154 : (Jvm.Cond.fieldLink "WaterWorks" (263 : Nat) "WaterWorks" "towers" "Ljava/util/ArrayList;") ∈ lw_all := lw_g (lw_at lw_m1 86 rfl) rfl
theorem q157 : (Jvm.Cond.fieldLink "WaterWorks" (266 : Nat) "WaterWorks" "orders" "Ljava/util/ArrayList;") ∈ lw_all := lw_g (lw_at lw_m1 89 rfl) rfl
theorem q159 : (Jvm.Cond.fieldLink "WaterWorks" (33 : Nat) "WaterWorks" "calls" "Ljava/util/ArrayList;") ∈ lw_all := lw_g (lw_at lw_m1 91 rfl) rfl
theorem q160 : (Jvm.Cond.fieldLink "WaterWorks" (9 : Nat) "WaterWorks" "failures" "Ljava/util/ArrayList;") ∈ lw_all := lw_g (lw_at lw_m1 92 rfl) rfl
theorem q161 : (Jvm.Cond.fieldLink "WaterWorks" (207 : Nat) "WaterWorks" "effects" "Ljava/util/ArrayList;") ∈ lw_all := lw_g (lw_at lw_m1 93 rfl) rfl
theorem q162 : (Jvm.Cond.fieldLink "WaterWorks" (241 : Nat) "WaterWorks" "works" "Ljava/util/ArrayList;") ∈ lw_all := lw_g (lw_at lw_m1 94 rfl) rfl
theorem q163 : (Jvm.Cond.fieldLink "WaterWorks" (249 : Nat) "WaterWorks" "alarms" "Ljava/util/ArrayList;") ∈ lw_all := lw_g (lw_at lw_m1 95 rfl) rfl
theorem q164 : (Jvm.Cond.lays "WaterWorks" "WaterWorks" "time" "I") ∈ lw_all := lw_g (lw_at lw_m1 96 rfl) rfl
theorem q165 : (Jvm.Cond.soleField "WaterWorks" "time") ∈ lw_all := lw_g (lw_at lw_m1 97 rfl) rfl
theorem q166 : (Jvm.Cond.lays "WaterWorks" "WaterWorks" "ordersEnded" "I") ∈ lw_all := lw_g (lw_at lw_m1 98 rfl) rfl
theorem q167 : (Jvm.Cond.soleField "WaterWorks" "ordersEnded") ∈ lw_all := lw_g (lw_at lw_m1 99 rfl) rfl
theorem q168 : (Jvm.Cond.laysFinal "WaterWorks" "WaterWorks" "stations" "Ljava/util/ArrayList;") ∈ lw_all := lw_g (lw_at lw_m1 100 rfl) rfl
theorem q169 : (Jvm.Cond.soleField "WaterWorks" "stations") ∈ lw_all := lw_g (lw_at lw_m1 101 rfl) rfl
theorem q170 : (Jvm.Cond.laysFinal "WaterWorks" "WaterWorks" "faults" "Ljava/util/ArrayList;") ∈ lw_all := lw_g (lw_at lw_m1 102 rfl) rfl
theorem q171 : (Jvm.Cond.soleField "WaterWorks" "faults") ∈ lw_all := lw_g (lw_at lw_m1 103 rfl) rfl
theorem q172 : (Jvm.Cond.laysFinal "WaterWorks" "WaterWorks" "slows" "Ljava/util/ArrayList;") ∈ lw_all := lw_g (lw_at lw_m1 104 rfl) rfl
theorem q173 : (Jvm.Cond.soleField "WaterWorks" "slows") ∈ lw_all := lw_g (lw_at lw_m1 105 rfl) rfl
theorem q174 : (Jvm.Cond.laysFinal "WaterWorks" "WaterWorks" "guards" "Ljava/util/ArrayList;") ∈ lw_all := lw_g (lw_at lw_m1 106 rfl) rfl
theorem q175 : (Jvm.Cond.soleField "WaterWorks" "guards") ∈ lw_all := lw_g (lw_at lw_m1 107 rfl) rfl
theorem q176 : (Jvm.Cond.laysFinal "WaterWorks" "WaterWorks" "row" "Ljava/util/ArrayList;") ∈ lw_all := lw_g (lw_at lw_m1 108 rfl) rfl
theorem q177 : (Jvm.Cond.soleField "WaterWorks" "row") ∈ lw_all := lw_g (lw_at lw_m1 109 rfl) rfl
theorem q178 : (Jvm.Cond.laysFinal "WaterWorks" "WaterWorks" "towers" "Ljava/util/ArrayList;") ∈ lw_all := lw_g (lw_at lw_m1 110 rfl) rfl
theorem q179 : (Jvm.Cond.soleField "WaterWorks" "towers") ∈ lw_all := lw_g (lw_at lw_m1 111 rfl) rfl
theorem q180 : (Jvm.Cond.laysFinal "WaterWorks" "WaterWorks" "orders" "Ljava/util/ArrayList;") ∈ lw_all := lw_g (lw_at lw_m1 112 rfl) rfl
theorem q181 : (Jvm.Cond.soleField "WaterWorks" "orders") ∈ lw_all := lw_g (lw_at lw_m1 113 rfl) rfl
theorem q182 : (Jvm.Cond.laysFinal "WaterWorks" "WaterWorks" "calls" "Ljava/util/ArrayList;") ∈ lw_all := lw_g (lw_at lw_m1 114 rfl) rfl
theorem q183 : (Jvm.Cond.soleField "WaterWorks" "calls") ∈ lw_all := lw_g (lw_at lw_m1 115 rfl) rfl
theorem q184 : (Jvm.Cond.laysFinal "WaterWorks" "WaterWorks" "failures" "Ljava/util/ArrayList;") ∈ lw_all := lw_g (lw_at lw_m1 116 rfl) rfl
theorem q185 : (Jvm.Cond.soleField "WaterWorks" "failures") ∈ lw_all := lw_g (lw_at lw_m1 117 rfl) rfl
theorem q186 : (Jvm.Cond.laysFinal "WaterWorks" "WaterWorks" "effects" "Ljava/util/ArrayList;") ∈ lw_all := lw_g (lw_at lw_m1 118 rfl) rfl
theorem q187 : (Jvm.Cond.soleField "WaterWorks" "effects") ∈ lw_all := lw_g (lw_at lw_m1 119 rfl) rfl
theorem q188 : (Jvm.Cond.laysFinal "WaterWorks" "WaterWorks" "works" "Ljava/util/ArrayList;") ∈ lw_all := lw_g (lw_at lw_m1 120 rfl) rfl
theorem q189 : (Jvm.Cond.soleField "WaterWorks" "works") ∈ lw_all := lw_g (lw_at lw_m1 121 rfl) rfl
theorem q190 : (Jvm.Cond.laysFinal "WaterWorks" "WaterWorks" "alarms" "Ljava/util/ArrayList;") ∈ lw_all := lw_g (lw_at lw_m1 122 rfl) rfl
theorem q191 : (Jvm.Cond.soleField "WaterWorks" "alarms") ∈ lw_all := lw_g (lw_at lw_m1 123 rfl) rfl
theorem q192 : (Jvm.Cond.superclass "WaterWorks" "java/lang/Object") ∈ lw_all := lw_g (lw_at lw_m1 124 rfl) rfl
theorem q194 : (Jvm.Cond.instanceMethod ({ cls := "WaterWorks", name := "station", desc := "(III)I" } : Jvm.MethodName)) ∈ lw_all := lw_g (lw_at lw_m1 126 rfl) rfl
theorem q195 : (Jvm.Cond.selects "WaterWorks" ({ cls := "WaterWorks", name := "station", desc := "(III)I" } : Jvm.MethodName) ({ cls := "WaterWorks", name := "station", desc := "(III)I" } : Jvm.MethodName)) ∈ lw_all := lw_g (lw_at lw_m1 127 rfl) rfl
theorem q196 : (Jvm.Cond.code ({ cls := "WaterWorks", name := "station", desc := "(III)I" } : Jvm.MethodName) prog_1_method_20_code (4 : Nat) (Option.some Jvm.ClassFile.FieldType.int)) ∈ lw_all := lw_g (lw_at lw_m1 128 rfl) rfl
theorem q197 : (Jvm.Cond.constant "WaterWorks" (269 : Nat) (1000000 : Int32)) ∈ lw_all := lw_g (lw_at lw_m1 129 rfl) rfl
theorem q198 : (Jvm.Cond.methodLink "WaterWorks" (270 : Nat) ({ cls := "WaterWorks", name := "in", desc := "(III)Z" } : Jvm.MethodName)) ∈ lw_all := lw_g (lw_at lw_m1 130 rfl) rfl
theorem q199 : (Jvm.Cond.static ({ cls := "WaterWorks", name := "in", desc := "(III)Z" } : Jvm.MethodName)) ∈ lw_all := lw_g (lw_at lw_m1 131 rfl) rfl
theorem q200 : (Jvm.Cond.code ({ cls := "WaterWorks", name := "in", desc := "(III)Z" } : Jvm.MethodName) prog_1_method_1_code (3 : Nat) (Option.some Jvm.ClassFile.FieldType.boolean)) ∈ lw_all := lw_g (lw_at lw_m1 132 rfl) rfl
theorem q201 : (Jvm.Cond.methodLink "WaterWorks" (13 : Nat) ({ cls := "java/util/ArrayList", name := "size", desc := "()I" } : Jvm.MethodName)) ∈ lw_all := lw_g (lw_at lw_m1 133 rfl) rfl
theorem q205 : (Jvm.Cond.classLink "WaterWorks" (52 : Nat) "WaterWorks$Station") ∈ lw_all := lw_g (lw_at lw_m1 137 rfl) rfl
theorem q207 : (Jvm.Cond.methodLink "WaterWorks" (273 : Nat) ({ cls := "WaterWorks$Station", name := "<init>", desc := "(III)V" } : Jvm.MethodName)) ∈ lw_all := lw_g (lw_at lw_m1 139 rfl) rfl
theorem q212 : (Jvm.Cond.fieldLinkNest "WaterWorks" (200 : Nat) "WaterWorks$Station" "capacity" "I" "WaterWorks") ∈ lw_tbl := lw_at lw_m1 144 rfl
theorem q214 : (Jvm.Cond.fieldLinkNest "WaterWorks" (54 : Nat) "WaterWorks$Station" "delay" "I" "WaterWorks") ∈ lw_tbl := lw_at lw_m1 146 rfl
theorem q218 : (Jvm.Cond.fieldLinkNest "WaterWorks" (183 : Nat) "WaterWorks$Station" "level" "I" "WaterWorks") ∈ lw_tbl := lw_at lw_m1 150 rfl
theorem q226 : (Jvm.Cond.methodLink "WaterWorks" (27 : Nat) ({ cls := "java/util/ArrayList", name := "add", desc := "(Ljava/lang/Object;)Z" } : Jvm.MethodName)) ∈ lw_all := lw_g (lw_at lw_m1 158 rfl) rfl
theorem q258 : (Jvm.Cond.selects "WaterWorks" ({ cls := "java/lang/Object", name := "getClass", desc := "()Ljava/lang/Class;" } : Jvm.MethodName) ({ cls := "java/lang/Object", name := "getClass", desc := "()Ljava/lang/Class;" } : Jvm.MethodName)) ∈ lw_all := lw_g (lw_at lw_m1 190 rfl) rfl
theorem q298 : (Jvm.Cond.instanceMethod ({ cls := "WaterWorks", name := "fault", desc := "(IIIII)I" } : Jvm.MethodName)) ∈ lw_all := lw_g (lw_at lw_m1 230 rfl) rfl
theorem q299 : (Jvm.Cond.selects "WaterWorks" ({ cls := "WaterWorks", name := "fault", desc := "(IIIII)I" } : Jvm.MethodName) ({ cls := "WaterWorks", name := "fault", desc := "(IIIII)I" } : Jvm.MethodName)) ∈ lw_all := lw_g (lw_at lw_m1 231 rfl) rfl
theorem q300 : (Jvm.Cond.code ({ cls := "WaterWorks", name := "fault", desc := "(IIIII)I" } : Jvm.MethodName) prog_1_method_22_code (6 : Nat) (Option.some Jvm.ClassFile.FieldType.int)) ∈ lw_all := lw_g (lw_at lw_m1 232 rfl) rfl
theorem q301 : (Jvm.Cond.classLink "WaterWorks" (63 : Nat) "WaterWorks$Plan") ∈ lw_all := lw_g (lw_at lw_m1 233 rfl) rfl
theorem q303 : (Jvm.Cond.methodLink "WaterWorks" (288 : Nat) ({ cls := "WaterWorks$Plan", name := "<init>", desc := "(IIIII)V" } : Jvm.MethodName)) ∈ lw_all := lw_g (lw_at lw_m1 235 rfl) rfl
theorem q308 : (Jvm.Cond.fieldLinkNest "WaterWorks" (276 : Nat) "WaterWorks$Plan" "station" "I" "WaterWorks") ∈ lw_tbl := lw_at lw_m2 0 rfl
theorem q310 : (Jvm.Cond.fieldLinkNest "WaterWorks" (281 : Nat) "WaterWorks$Plan" "act" "I" "WaterWorks") ∈ lw_tbl := lw_at lw_m2 2 rfl
theorem q312 : (Jvm.Cond.fieldLinkNest "WaterWorks" (282 : Nat) "WaterWorks$Plan" "a" "I" "WaterWorks") ∈ lw_tbl := lw_at lw_m2 4 rfl
theorem q314 : (Jvm.Cond.fieldLinkNest "WaterWorks" (285 : Nat) "WaterWorks$Plan" "b" "I" "WaterWorks") ∈ lw_tbl := lw_at lw_m2 6 rfl
theorem q316 : (Jvm.Cond.fieldLinkNest "WaterWorks" (74 : Nat) "WaterWorks$Plan" "what" "I" "WaterWorks") ∈ lw_tbl := lw_at lw_m2 8 rfl
theorem q328 : (Jvm.Cond.methodLink "WaterWorks" (289 : Nat) ({ cls := "WaterWorks", name := "plan", desc := "(Ljava/util/ArrayList;LWaterWorks$Plan;Z)I" } : Jvm.MethodName)) ∈ lw_all := lw_g (lw_at lw_m2 20 rfl) rfl
theorem q329 : (Jvm.Cond.privateMethod ({ cls := "WaterWorks", name := "plan", desc := "(Ljava/util/ArrayList;LWaterWorks$Plan;Z)I" } : Jvm.MethodName)) ∈ lw_tbl := lw_at lw_m2 21 rfl
theorem q330 : (Jvm.Cond.instanceMethod ({ cls := "WaterWorks", name := "plan", desc := "(Ljava/util/ArrayList;LWaterWorks$Plan;Z)I" } : Jvm.MethodName)) ∈ lw_all := lw_g (lw_at lw_m2 22 rfl) rfl
theorem q331 : (Jvm.Cond.code ({ cls := "WaterWorks", name := "plan", desc := "(Ljava/util/ArrayList;LWaterWorks$Plan;Z)I" } : Jvm.MethodName) prog_1_method_21_code (4 : Nat) (Option.some Jvm.ClassFile.FieldType.int)) ∈ lw_all := lw_g (lw_at lw_m2 23 rfl) rfl
theorem q332 : (Jvm.Cond.methodLink "WaterWorks" (277 : Nat) ({ cls := "WaterWorks", name := "has", desc := "(Ljava/util/ArrayList;I)Z" } : Jvm.MethodName)) ∈ lw_all := lw_g (lw_at lw_m2 24 rfl) rfl
theorem q333 : (Jvm.Cond.static ({ cls := "WaterWorks", name := "has", desc := "(Ljava/util/ArrayList;I)Z" } : Jvm.MethodName)) ∈ lw_all := lw_g (lw_at lw_m2 25 rfl) rfl
theorem q334 : (Jvm.Cond.code ({ cls := "WaterWorks", name := "has", desc := "(Ljava/util/ArrayList;I)Z" } : Jvm.MethodName) prog_1_method_19_code (2 : Nat) (Option.some Jvm.ClassFile.FieldType.boolean)) ∈ lw_all := lw_g (lw_at lw_m2 26 rfl) rfl
theorem q336 : (Jvm.Cond.instanceMethod ({ cls := "WaterWorks", name := "slow", desc := "(IIIII)I" } : Jvm.MethodName)) ∈ lw_all := lw_g (lw_at lw_m2 28 rfl) rfl
theorem q337 : (Jvm.Cond.selects "WaterWorks" ({ cls := "WaterWorks", name := "slow", desc := "(IIIII)I" } : Jvm.MethodName) ({ cls := "WaterWorks", name := "slow", desc := "(IIIII)I" } : Jvm.MethodName)) ∈ lw_all := lw_g (lw_at lw_m2 29 rfl) rfl
theorem q338 : (Jvm.Cond.code ({ cls := "WaterWorks", name := "slow", desc := "(IIIII)I" } : Jvm.MethodName) prog_1_method_23_code (6 : Nat) (Option.some Jvm.ClassFile.FieldType.int)) ∈ lw_all := lw_g (lw_at lw_m2 30 rfl) rfl
theorem q340 : (Jvm.Cond.instanceMethod ({ cls := "WaterWorks", name := "guard", desc := "(IIIII)I" } : Jvm.MethodName)) ∈ lw_all := lw_g (lw_at lw_m2 32 rfl) rfl
theorem q341 : (Jvm.Cond.selects "WaterWorks" ({ cls := "WaterWorks", name := "guard", desc := "(IIIII)I" } : Jvm.MethodName) ({ cls := "WaterWorks", name := "guard", desc := "(IIIII)I" } : Jvm.MethodName)) ∈ lw_all := lw_g (lw_at lw_m2 33 rfl) rfl
theorem q342 : (Jvm.Cond.code ({ cls := "WaterWorks", name := "guard", desc := "(IIIII)I" } : Jvm.MethodName) prog_1_method_26_code (7 : Nat) (Option.some Jvm.ClassFile.FieldType.int)) ∈ lw_all := lw_g (lw_at lw_m2 34 rfl) rfl
theorem q343 : (Jvm.Cond.methodLink "WaterWorks" (327 : Nat) ({ cls := "WaterWorks", name := "fits", desc := "(IIII)Z" } : Jvm.MethodName)) ∈ lw_all := lw_g (lw_at lw_m2 35 rfl) rfl
theorem q344 : (Jvm.Cond.static ({ cls := "WaterWorks", name := "fits", desc := "(IIII)Z" } : Jvm.MethodName)) ∈ lw_all := lw_g (lw_at lw_m2 36 rfl) rfl
theorem q345 : (Jvm.Cond.code ({ cls := "WaterWorks", name := "fits", desc := "(IIII)Z" } : Jvm.MethodName) prog_1_method_24_code (4 : Nat) (Option.some Jvm.ClassFile.FieldType.boolean)) ∈ lw_all := lw_g (lw_at lw_m2 37 rfl) rfl
theorem q346 : (Jvm.Cond.methodLink "WaterWorks" (330 : Nat) ({ cls := "WaterWorks", name := "made", desc := "(I[II)LWaterWorks$Guard;" } : Jvm.MethodName)) ∈ lw_all := lw_g (lw_at lw_m2 38 rfl) rfl
theorem q347 : (Jvm.Cond.privateMethod ({ cls := "WaterWorks", name := "made", desc := "(I[II)LWaterWorks$Guard;" } : Jvm.MethodName)) ∈ lw_tbl := lw_at lw_m2 39 rfl
theorem q348 : (Jvm.Cond.instanceMethod ({ cls := "WaterWorks", name := "made", desc := "(I[II)LWaterWorks$Guard;" } : Jvm.MethodName)) ∈ lw_all := lw_g (lw_at lw_m2 40 rfl) rfl
theorem q349 : (Jvm.Cond.code ({ cls := "WaterWorks", name := "made", desc := "(I[II)LWaterWorks$Guard;" } : Jvm.MethodName) prog_1_method_25_code (4 : Nat) (Option.some (Jvm.ClassFile.FieldType.object "WaterWorks$Guard"))) ∈ lw_all := lw_g (lw_at lw_m2 41 rfl) rfl
theorem q350 : (Jvm.Cond.classLink "WaterWorks" (293 : Nat) "WaterWorks$Fuse") ∈ lw_all := lw_g (lw_at lw_m2 42 rfl) rfl
theorem q352 : (Jvm.Cond.methodLink "WaterWorks" (295 : Nat) ({ cls := "WaterWorks$Fuse", name := "<init>", desc := "(LWaterWorks;[II)V" } : Jvm.MethodName)) ∈ lw_all := lw_g (lw_at lw_m2 44 rfl) rfl
theorem q362 : (Jvm.Cond.fieldLinkNest "WaterWorks" (432 : Nat) "WaterWorks$Fuse" "state" "I" "WaterWorks") ∈ lw_tbl := lw_at lw_m2 54 rfl
theorem q364 : (Jvm.Cond.fieldLinkNest "WaterWorks" (433 : Nat) "WaterWorks$Fuse" "count" "I" "WaterWorks") ∈ lw_tbl := lw_at lw_m2 56 rfl
theorem q366 : (Jvm.Cond.fieldLinkNest "WaterWorks" (436 : Nat) "WaterWorks$Fuse" "until" "I" "WaterWorks") ∈ lw_tbl := lw_at lw_m2 58 rfl
theorem q372 : (Jvm.Cond.fieldLink "WaterWorks" (430 : Nat) "WaterWorks$Guard" "number" "I") ∈ lw_all := lw_g (lw_at lw_m2 64 rfl) rfl
theorem q374 : (Jvm.Cond.fieldLink "WaterWorks" (215 : Nat) "WaterWorks$Guard" "sort" "I") ∈ lw_all := lw_g (lw_at lw_m2 66 rfl) rfl
theorem q436 : (Jvm.Cond.classLink "WaterWorks" (236 : Nat) "WaterWorks$Bulkhead") ∈ lw_all := lw_g (lw_at lw_m2 128 rfl) rfl
theorem q438 : (Jvm.Cond.methodLink "WaterWorks" (298 : Nat) ({ cls := "WaterWorks$Bulkhead", name := "<init>", desc := "(LWaterWorks;[I)V" } : Jvm.MethodName)) ∈ lw_all := lw_g (lw_at lw_m2 130 rfl) rfl
theorem q446 : (Jvm.Cond.fieldLinkNest "WaterWorks" (442 : Nat) "WaterWorks$Bulkhead" "waiting" "Ljava/util/ArrayList;" "WaterWorks") ∈ lw_tbl := lw_at lw_m2 138 rfl
theorem q448 : (Jvm.Cond.fieldLinkNest "WaterWorks" (439 : Nat) "WaterWorks$Bulkhead" "work" "I" "WaterWorks") ∈ lw_tbl := lw_at lw_m2 140 rfl
theorem q450 : (Jvm.Cond.fieldLinkNest "WaterWorks" (445 : Nat) "WaterWorks$Bulkhead" "refused" "I" "WaterWorks") ∈ lw_tbl := lw_at lw_m2 142 rfl
theorem q468 : (Jvm.Cond.classLink "WaterWorks" (301 : Nat) "WaterWorks$Limit") ∈ lw_all := lw_g (lw_at lw_m2 160 rfl) rfl
theorem q470 : (Jvm.Cond.methodLink "WaterWorks" (303 : Nat) ({ cls := "WaterWorks$Limit", name := "<init>", desc := "(LWaterWorks;[I)V" } : Jvm.MethodName)) ∈ lw_all := lw_g (lw_at lw_m2 162 rfl) rfl
theorem q475 : (Jvm.Cond.fieldLinkNest "WaterWorks" (448 : Nat) "WaterWorks$Limit" "tokens" "I" "WaterWorks") ∈ lw_tbl := lw_at lw_m2 167 rfl
theorem q489 : (Jvm.Cond.classLink "WaterWorks" (304 : Nat) "WaterWorks$Deadline") ∈ lw_all := lw_g (lw_at lw_m2 181 rfl) rfl
theorem q491 : (Jvm.Cond.methodLink "WaterWorks" (306 : Nat) ({ cls := "WaterWorks$Deadline", name := "<init>", desc := "(LWaterWorks;[I)V" } : Jvm.MethodName)) ∈ lw_all := lw_g (lw_at lw_m2 183 rfl) rfl
theorem q506 : (Jvm.Cond.classLink "WaterWorks" (307 : Nat) "WaterWorks$Retry") ∈ lw_all := lw_g (lw_at lw_m2 198 rfl) rfl
theorem q508 : (Jvm.Cond.methodLink "WaterWorks" (309 : Nat) ({ cls := "WaterWorks$Retry", name := "<init>", desc := "(LWaterWorks;[II)V" } : Jvm.MethodName)) ∈ lw_all := lw_g (lw_at lw_m2 200 rfl) rfl
theorem q523 : (Jvm.Cond.classLink "WaterWorks" (310 : Nat) "WaterWorks$Hedge") ∈ lw_all := lw_g (lw_at lw_m2 215 rfl) rfl
theorem q525 : (Jvm.Cond.methodLink "WaterWorks" (312 : Nat) ({ cls := "WaterWorks$Hedge", name := "<init>", desc := "(LWaterWorks;[I)V" } : Jvm.MethodName)) ∈ lw_all := lw_g (lw_at lw_m2 217 rfl) rfl
theorem q540 : (Jvm.Cond.classLink "WaterWorks" (313 : Nat) "WaterWorks$Fallback") ∈ lw_all := lw_g (lw_at lw_m2 232 rfl) rfl
theorem q542 : (Jvm.Cond.methodLink "WaterWorks" (315 : Nat) ({ cls := "WaterWorks$Fallback", name := "<init>", desc := "(LWaterWorks;[II)V" } : Jvm.MethodName)) ∈ lw_all := lw_g (lw_at lw_m2 234 rfl) rfl
theorem q557 : (Jvm.Cond.classLink "WaterWorks" (316 : Nat) "WaterWorks$Memory") ∈ lw_all := lw_g (lw_at lw_m3 9 rfl) rfl
theorem q559 : (Jvm.Cond.methodLink "WaterWorks" (318 : Nat) ({ cls := "WaterWorks$Memory", name := "<init>", desc := "(LWaterWorks;[I)V" } : Jvm.MethodName)) ∈ lw_all := lw_g (lw_at lw_m3 11 rfl) rfl
theorem q564 : (Jvm.Cond.fieldLinkNest "WaterWorks" (451 : Nat) "WaterWorks$Memory" "answers" "[I" "WaterWorks") ∈ lw_tbl := lw_at lw_m3 16 rfl
theorem q566 : (Jvm.Cond.fieldLinkNest "WaterWorks" (454 : Nat) "WaterWorks$Memory" "seconds" "[I" "WaterWorks") ∈ lw_tbl := lw_at lw_m3 18 rfl
theorem q586 : (Jvm.Cond.classLink "WaterWorks" (319 : Nat) "WaterWorks$Join") ∈ lw_all := lw_g (lw_at lw_m3 38 rfl) rfl
theorem q588 : (Jvm.Cond.methodLink "WaterWorks" (321 : Nat) ({ cls := "WaterWorks$Join", name := "<init>", desc := "(LWaterWorks;)V" } : Jvm.MethodName)) ∈ lw_all := lw_g (lw_at lw_m3 40 rfl) rfl
theorem q603 : (Jvm.Cond.classLink "WaterWorks" (324 : Nat) "WaterWorks$Translator") ∈ lw_all := lw_g (lw_at lw_m3 55 rfl) rfl
theorem q605 : (Jvm.Cond.methodLink "WaterWorks" (326 : Nat) ({ cls := "WaterWorks$Translator", name := "<init>", desc := "(LWaterWorks;[II)V" } : Jvm.MethodName)) ∈ lw_all := lw_g (lw_at lw_m3 57 rfl) rfl
theorem q621 : (Jvm.Cond.instanceMethod ({ cls := "WaterWorks", name := "on", desc := "(I)I" } : Jvm.MethodName)) ∈ lw_all := lw_g (lw_at lw_m3 73 rfl) rfl
theorem q622 : (Jvm.Cond.selects "WaterWorks" ({ cls := "WaterWorks", name := "on", desc := "(I)I" } : Jvm.MethodName) ({ cls := "WaterWorks", name := "on", desc := "(I)I" } : Jvm.MethodName)) ∈ lw_all := lw_g (lw_at lw_m3 74 rfl) rfl
theorem q623 : (Jvm.Cond.code ({ cls := "WaterWorks", name := "on", desc := "(I)I" } : Jvm.MethodName) prog_1_method_27_code (3 : Nat) (Option.some Jvm.ClassFile.FieldType.int)) ∈ lw_all := lw_g (lw_at lw_m3 75 rfl) rfl
theorem q624 : (Jvm.Cond.methodLink "WaterWorks" (48 : Nat) ({ cls := "java/util/ArrayList", name := "get", desc := "(I)Ljava/lang/Object;" } : Jvm.MethodName)) ∈ lw_all := lw_g (lw_at lw_m3 76 rfl) rfl
theorem q638 : (Jvm.Cond.classLink "WaterWorks" (97 : Nat) "WaterWorks$Guard") ∈ lw_all := lw_g (lw_at lw_m3 90 rfl) rfl
theorem q640 : (Jvm.Cond.instanceMethod ({ cls := "WaterWorks", name := "tower", desc := "()I" } : Jvm.MethodName)) ∈ lw_all := lw_g (lw_at lw_m3 92 rfl) rfl
theorem q641 : (Jvm.Cond.selects "WaterWorks" ({ cls := "WaterWorks", name := "tower", desc := "()I" } : Jvm.MethodName) ({ cls := "WaterWorks", name := "tower", desc := "()I" } : Jvm.MethodName)) ∈ lw_all := lw_g (lw_at lw_m3 93 rfl) rfl
theorem q642 : (Jvm.Cond.code ({ cls := "WaterWorks", name := "tower", desc := "()I" } : Jvm.MethodName) prog_1_method_28_code (3 : Nat) (Option.some Jvm.ClassFile.FieldType.int)) ∈ lw_all := lw_g (lw_at lw_m3 94 rfl) rfl
theorem q644 : (Jvm.Cond.methodLink "WaterWorks" (334 : Nat) ({ cls := "java/util/ArrayList", name := "clear", desc := "()V" } : Jvm.MethodName)) ∈ lw_all := lw_g (lw_at lw_m3 96 rfl) rfl
theorem q649 : (Jvm.Cond.instanceMethod ({ cls := "WaterWorks", name := "order", desc := "(IIIII)I" } : Jvm.MethodName)) ∈ lw_all := lw_g (lw_at lw_m3 101 rfl) rfl
theorem q650 : (Jvm.Cond.selects "WaterWorks" ({ cls := "WaterWorks", name := "order", desc := "(IIIII)I" } : Jvm.MethodName) ({ cls := "WaterWorks", name := "order", desc := "(IIIII)I" } : Jvm.MethodName)) ∈ lw_all := lw_g (lw_at lw_m3 102 rfl) rfl
theorem q651 : (Jvm.Cond.code ({ cls := "WaterWorks", name := "order", desc := "(IIIII)I" } : Jvm.MethodName) prog_1_method_29_code (6 : Nat) (Option.some Jvm.ClassFile.FieldType.int)) ∈ lw_all := lw_g (lw_at lw_m3 103 rfl) rfl
theorem q652 : (Jvm.Cond.methodLink "WaterWorks" (337 : Nat) ({ cls := "WaterWorks", name := "begins", desc := "(IIIII)I" } : Jvm.MethodName)) ∈ lw_all := lw_g (lw_at lw_m3 104 rfl) rfl
theorem q653 : (Jvm.Cond.privateMethod ({ cls := "WaterWorks", name := "begins", desc := "(IIIII)I" } : Jvm.MethodName)) ∈ lw_tbl := lw_at lw_m3 105 rfl
theorem q654 : (Jvm.Cond.instanceMethod ({ cls := "WaterWorks", name := "begins", desc := "(IIIII)I" } : Jvm.MethodName)) ∈ lw_all := lw_g (lw_at lw_m3 106 rfl) rfl
theorem q655 : (Jvm.Cond.code ({ cls := "WaterWorks", name := "begins", desc := "(IIIII)I" } : Jvm.MethodName) prog_1_method_30_code (7 : Nat) (Option.some Jvm.ClassFile.FieldType.int)) ∈ lw_all := lw_g (lw_at lw_m3 107 rfl) rfl
theorem q656 : (Jvm.Cond.classLink "WaterWorks" (66 : Nat) "WaterWorks$Order") ∈ lw_all := lw_g (lw_at lw_m3 108 rfl) rfl
theorem q658 : (Jvm.Cond.classLink "WaterWorks" (340 : Nat) "[LWaterWorks$Guard;") ∈ lw_all := lw_g (lw_at lw_m3 110 rfl) rfl
theorem q659 : (Jvm.Cond.methodLink "WaterWorks" (341 : Nat) ({ cls := "WaterWorks$Order", name := "<init>", desc := "(I[LWaterWorks$Guard;IIIII)V" } : Jvm.MethodName)) ∈ lw_all := lw_g (lw_at lw_m3 111 rfl) rfl
theorem q665 : (Jvm.Cond.fieldLinkNest "WaterWorks" (344 : Nat) "WaterWorks$Order" "number" "I" "WaterWorks") ∈ lw_tbl := lw_at lw_m3 117 rfl
theorem q668 : (Jvm.Cond.fieldLinkNest "WaterWorks" (85 : Nat) "WaterWorks$Order" "station" "I" "WaterWorks") ∈ lw_tbl := lw_at lw_m3 120 rfl
theorem q671 : (Jvm.Cond.fieldLinkNest "WaterWorks" (65 : Nat) "WaterWorks$Order" "act" "I" "WaterWorks") ∈ lw_tbl := lw_at lw_m3 123 rfl
theorem q673 : (Jvm.Cond.fieldLinkNest "WaterWorks" (197 : Nat) "WaterWorks$Order" "v" "I" "WaterWorks") ∈ lw_tbl := lw_at lw_m3 125 rfl
theorem q676 : (Jvm.Cond.fieldLinkNest "WaterWorks" (176 : Nat) "WaterWorks$Order" "key" "I" "WaterWorks") ∈ lw_tbl := lw_at lw_m3 128 rfl
theorem q679 : (Jvm.Cond.fieldLinkNest "WaterWorks" (412 : Nat) "WaterWorks$Order" "began" "I" "WaterWorks") ∈ lw_tbl := lw_at lw_m3 131 rfl
theorem q681 : (Jvm.Cond.fieldLinkNest "WaterWorks" (81 : Nat) "WaterWorks$Order" "tower" "[LWaterWorks$Guard;" "WaterWorks") ∈ lw_tbl := lw_at lw_m3 133 rfl
theorem q683 : (Jvm.Cond.fieldLinkNest "WaterWorks" (77 : Nat) "WaterWorks$Order" "first" "LWaterWorks$Call;" "WaterWorks") ∈ lw_tbl := lw_at lw_m3 135 rfl
theorem q685 : (Jvm.Cond.fieldLinkNest "WaterWorks" (348 : Nat) "WaterWorks$Order" "cancelled" "Z" "WaterWorks") ∈ lw_tbl := lw_at lw_m3 137 rfl
theorem q687 : (Jvm.Cond.fieldLinkNest "WaterWorks" (147 : Nat) "WaterWorks$Order" "ended" "I" "WaterWorks") ∈ lw_tbl := lw_at lw_m3 139 rfl
theorem q709 : (Jvm.Cond.methodLink "WaterWorks" (109 : Nat) ({ cls := "WaterWorks", name := "begin", desc := "(LWaterWorks$Order;ILWaterWorks$Call;)V" } : Jvm.MethodName)) ∈ lw_all := lw_g (lw_at lw_m3 161 rfl) rfl
theorem q710 : (Jvm.Cond.privateMethod ({ cls := "WaterWorks", name := "begin", desc := "(LWaterWorks$Order;ILWaterWorks$Call;)V" } : Jvm.MethodName)) ∈ lw_tbl := lw_at lw_m3 162 rfl
theorem q711 : (Jvm.Cond.instanceMethod ({ cls := "WaterWorks", name := "begin", desc := "(LWaterWorks$Order;ILWaterWorks$Call;)V" } : Jvm.MethodName)) ∈ lw_all := lw_g (lw_at lw_m3 163 rfl) rfl
theorem q712 : (Jvm.Cond.code ({ cls := "WaterWorks", name := "begin", desc := "(LWaterWorks$Order;ILWaterWorks$Call;)V" } : Jvm.MethodName) prog_1_method_6_code (5 : Nat) (Option.none : Option Jvm.ClassFile.FieldType)) ∈ lw_all := lw_g (lw_at lw_m3 164 rfl) rfl
theorem q713 : (Jvm.Cond.methodLink "WaterWorks" (88 : Nat) ({ cls := "WaterWorks", name := "beginTry", desc := "(LWaterWorks$Order;ILWaterWorks$Call;I)V" } : Jvm.MethodName)) ∈ lw_all := lw_g (lw_at lw_m3 165 rfl) rfl
theorem q714 : (Jvm.Cond.privateMethod ({ cls := "WaterWorks", name := "beginTry", desc := "(LWaterWorks$Order;ILWaterWorks$Call;I)V" } : Jvm.MethodName)) ∈ lw_tbl := lw_at lw_m3 166 rfl
theorem q715 : (Jvm.Cond.instanceMethod ({ cls := "WaterWorks", name := "beginTry", desc := "(LWaterWorks$Order;ILWaterWorks$Call;I)V" } : Jvm.MethodName)) ∈ lw_all := lw_g (lw_at lw_m3 167 rfl) rfl
theorem q716 : (Jvm.Cond.code ({ cls := "WaterWorks", name := "beginTry", desc := "(LWaterWorks$Order;ILWaterWorks$Call;I)V" } : Jvm.MethodName) prog_1_method_5_code (7 : Nat) (Option.none : Option Jvm.ClassFile.FieldType)) ∈ lw_all := lw_g (lw_at lw_m3 168 rfl) rfl
theorem q717 : (Jvm.Cond.methodLink "WaterWorks" (42 : Nat) ({ cls := "WaterWorks", name := "add", desc := "(LWaterWorks$Order;ILWaterWorks$Call;LWaterWorks$Guard;I)LWaterWorks$Call;" } : Jvm.MethodName)) ∈ lw_all := lw_g (lw_at lw_m3 169 rfl) rfl
theorem q718 : (Jvm.Cond.privateMethod ({ cls := "WaterWorks", name := "add", desc := "(LWaterWorks$Order;ILWaterWorks$Call;LWaterWorks$Guard;I)LWaterWorks$Call;" } : Jvm.MethodName)) ∈ lw_tbl := lw_at lw_m3 170 rfl
theorem q719 : (Jvm.Cond.instanceMethod ({ cls := "WaterWorks", name := "add", desc := "(LWaterWorks$Order;ILWaterWorks$Call;LWaterWorks$Guard;I)LWaterWorks$Call;" } : Jvm.MethodName)) ∈ lw_all := lw_g (lw_at lw_m3 171 rfl) rfl
theorem q720 : (Jvm.Cond.code ({ cls := "WaterWorks", name := "add", desc := "(LWaterWorks$Order;ILWaterWorks$Call;LWaterWorks$Guard;I)LWaterWorks$Call;" } : Jvm.MethodName) prog_1_method_4_code (7 : Nat) (Option.some (Jvm.ClassFile.FieldType.object "WaterWorks$Call"))) ∈ lw_all := lw_g (lw_at lw_m3 172 rfl) rfl
theorem q721 : (Jvm.Cond.classLink "WaterWorks" (31 : Nat) "WaterWorks$Call") ∈ lw_all := lw_g (lw_at lw_m3 173 rfl) rfl
theorem q723 : (Jvm.Cond.methodLink "WaterWorks" (36 : Nat) ({ cls := "WaterWorks$Call", name := "<init>", desc := "(ILWaterWorks$Order;ILWaterWorks$Call;LWaterWorks$Guard;II)V" } : Jvm.MethodName)) ∈ lw_all := lw_g (lw_at lw_m3 175 rfl) rfl
theorem q731 : (Jvm.Cond.fieldLinkNest "WaterWorks" (154 : Nat) "WaterWorks$Call" "number" "I" "WaterWorks") ∈ lw_tbl := lw_at lw_m3 183 rfl
theorem q734 : (Jvm.Cond.fieldLinkNest "WaterWorks" (106 : Nat) "WaterWorks$Call" "depth" "I" "WaterWorks") ∈ lw_tbl := lw_at lw_m3 186 rfl
theorem q736 : (Jvm.Cond.fieldLinkNest "WaterWorks" (168 : Nat) "WaterWorks$Call" "station" "I" "WaterWorks") ∈ lw_tbl := lw_at lw_m3 188 rfl
theorem q738 : (Jvm.Cond.fieldLinkNest "WaterWorks" (431 : Nat) "WaterWorks$Call" "began" "I" "WaterWorks") ∈ lw_tbl := lw_at lw_m3 190 rfl
theorem q743 : (Jvm.Cond.fieldLinkNest "WaterWorks" (102 : Nat) "WaterWorks$Call" "order" "LWaterWorks$Order;" "WaterWorks") ∈ lw_tbl := lw_at lw_m3 195 rfl
theorem q745 : (Jvm.Cond.fieldLinkNest "WaterWorks" (140 : Nat) "WaterWorks$Call" "parent" "LWaterWorks$Call;" "WaterWorks") ∈ lw_tbl := lw_at lw_m3 197 rfl
theorem q748 : (Jvm.Cond.fieldLinkNest "WaterWorks" (92 : Nat) "WaterWorks$Call" "guard" "LWaterWorks$Guard;" "WaterWorks") ∈ lw_tbl := lw_at lw_m3 200 rfl
theorem q753 : (Jvm.Cond.fieldLinkNest "WaterWorks" (39 : Nat) "WaterWorks$Call" "within" "Ljava/util/ArrayList;" "WaterWorks") ∈ lw_tbl := lw_at lw_m3 205 rfl
theorem q755 : (Jvm.Cond.fieldLinkNest "WaterWorks" (457 : Nat) "WaterWorks$Call" "leader" "LWaterWorks$Call;" "WaterWorks") ∈ lw_tbl := lw_at lw_m3 207 rfl
theorem q758 : (Jvm.Cond.fieldLinkNest "WaterWorks" (119 : Nat) "WaterWorks$Call" "by" "Z" "WaterWorks") ∈ lw_tbl := lw_at lw_m3 210 rfl
theorem q767 : (Jvm.Cond.fieldLinkNest "WaterWorks" (113 : Nat) "WaterWorks$Call" "how" "I" "WaterWorks") ∈ lw_tbl := lw_at lw_m3 219 rfl
theorem q771 : (Jvm.Cond.fieldLinkNest "WaterWorks" (116 : Nat) "WaterWorks$Call" "answer" "I" "WaterWorks") ∈ lw_tbl := lw_at lw_m3 223 rfl
theorem q773 : (Jvm.Cond.fieldLinkNest "WaterWorks" (138 : Nat) "WaterWorks$Call" "ended" "I" "WaterWorks") ∈ lw_tbl := lw_at lw_m3 225 rfl
theorem q777 : (Jvm.Cond.fieldLinkNest "WaterWorks" (218 : Nat) "WaterWorks$Call" "state" "I" "WaterWorks") ∈ lw_tbl := lw_at lw_m3 229 rfl
theorem q782 : (Jvm.Cond.fieldLinkNest "WaterWorks" (57 : Nat) "WaterWorks$Call" "due" "I" "WaterWorks") ∈ lw_tbl := lw_at lw_m3 234 rfl
theorem q788 : (Jvm.Cond.fieldLinkNest "WaterWorks" (126 : Nat) "WaterWorks$Call" "failure" "LWaterWorks$Failure;" "WaterWorks") ∈ lw_tbl := lw_at lw_m4 0 rfl
theorem q824 : (Jvm.Cond.methodLink "WaterWorks" (70 : Nat) ({ cls := "WaterWorks$Plan", name := "fits", desc := "(III)Z" } : Jvm.MethodName)) ∈ lw_all := lw_g (lw_at lw_m4 36 rfl) rfl
theorem q829 : (Jvm.Cond.methodLink "WaterWorks" (96 : Nat) ({ cls := "WaterWorks$Guard", name := "begins", desc := "(LWaterWorks$Call;)V" } : Jvm.MethodName)) ∈ lw_all := lw_g (lw_at lw_m4 41 rfl) rfl
theorem q841 : (Jvm.Cond.privateMethod ({ cls := "WaterWorks", name := "goesIn", desc := "(LWaterWorks$Call;)V" } : Jvm.MethodName)) ∈ lw_tbl := lw_at lw_m4 53 rfl
theorem q842 : (Jvm.Cond.instanceMethod ({ cls := "WaterWorks", name := "goesIn", desc := "(LWaterWorks$Call;)V" } : Jvm.MethodName)) ∈ lw_all := lw_g (lw_at lw_m4 54 rfl) rfl
theorem q843 : (Jvm.Cond.code ({ cls := "WaterWorks", name := "goesIn", desc := "(LWaterWorks$Call;)V" } : Jvm.MethodName) prog_1_method_7_code (2 : Nat) (Option.none : Option Jvm.ClassFile.FieldType)) ∈ lw_all := lw_g (lw_at lw_m4 55 rfl) rfl
theorem q852 : (Jvm.Cond.privateMethod ({ cls := "WaterWorks", name := "failed", desc := "(III)LWaterWorks$Failure;" } : Jvm.MethodName)) ∈ lw_tbl := lw_at lw_m4 64 rfl
theorem q853 : (Jvm.Cond.instanceMethod ({ cls := "WaterWorks", name := "failed", desc := "(III)LWaterWorks$Failure;" } : Jvm.MethodName)) ∈ lw_all := lw_g (lw_at lw_m4 65 rfl) rfl
theorem q854 : (Jvm.Cond.code ({ cls := "WaterWorks", name := "failed", desc := "(III)LWaterWorks$Failure;" } : Jvm.MethodName) prog_1_method_3_code (5 : Nat) (Option.some (Jvm.ClassFile.FieldType.object "WaterWorks$Failure"))) ∈ lw_all := lw_g (lw_at lw_m4 66 rfl) rfl
theorem q855 : (Jvm.Cond.classLink "WaterWorks" (7 : Nat) "WaterWorks$Failure") ∈ lw_all := lw_g (lw_at lw_m4 67 rfl) rfl
theorem q857 : (Jvm.Cond.methodLink "WaterWorks" (23 : Nat) ({ cls := "WaterWorks$Failure", name := "<init>", desc := "(IIIII)V" } : Jvm.MethodName)) ∈ lw_all := lw_g (lw_at lw_m4 69 rfl) rfl
theorem q864 : (Jvm.Cond.fieldLinkNest "WaterWorks" (415 : Nat) "WaterWorks$Failure" "kind" "I" "WaterWorks") ∈ lw_tbl := lw_at lw_m4 76 rfl
theorem q866 : (Jvm.Cond.fieldLinkNest "WaterWorks" (418 : Nat) "WaterWorks$Failure" "second" "I" "WaterWorks") ∈ lw_tbl := lw_at lw_m4 78 rfl
theorem q868 : (Jvm.Cond.fieldLinkNest "WaterWorks" (421 : Nat) "WaterWorks$Failure" "guard" "I" "WaterWorks") ∈ lw_tbl := lw_at lw_m4 80 rfl
theorem q870 : (Jvm.Cond.fieldLinkNest "WaterWorks" (423 : Nat) "WaterWorks$Failure" "station" "I" "WaterWorks") ∈ lw_tbl := lw_at lw_m4 82 rfl
theorem q873 : (Jvm.Cond.fieldLinkNest "WaterWorks" (424 : Nat) "WaterWorks$Failure" "cause" "LWaterWorks$Failure;" "WaterWorks") ∈ lw_tbl := lw_at lw_m4 85 rfl
theorem q875 : (Jvm.Cond.fieldLinkNest "WaterWorks" (427 : Nat) "WaterWorks$Failure" "under" "LWaterWorks$Failure;" "WaterWorks") ∈ lw_tbl := lw_at lw_m4 87 rfl
theorem q892 : (Jvm.Cond.privateMethod ({ cls := "WaterWorks", name := "fails", desc := "(LWaterWorks$Call;LWaterWorks$Failure;)V" } : Jvm.MethodName)) ∈ lw_tbl := lw_at lw_m4 104 rfl
theorem q893 : (Jvm.Cond.instanceMethod ({ cls := "WaterWorks", name := "fails", desc := "(LWaterWorks$Call;LWaterWorks$Failure;)V" } : Jvm.MethodName)) ∈ lw_all := lw_g (lw_at lw_m4 105 rfl) rfl
theorem q894 : (Jvm.Cond.code ({ cls := "WaterWorks", name := "fails", desc := "(LWaterWorks$Call;LWaterWorks$Failure;)V" } : Jvm.MethodName) prog_1_method_9_code (3 : Nat) (Option.none : Option Jvm.ClassFile.FieldType)) ∈ lw_all := lw_g (lw_at lw_m4 106 rfl) rfl
theorem q895 : (Jvm.Cond.methodLink "WaterWorks" (123 : Nat) ({ cls := "WaterWorks", name := "ended", desc := "(LWaterWorks$Call;)V" } : Jvm.MethodName)) ∈ lw_all := lw_g (lw_at lw_m4 107 rfl) rfl
theorem q896 : (Jvm.Cond.privateMethod ({ cls := "WaterWorks", name := "ended", desc := "(LWaterWorks$Call;)V" } : Jvm.MethodName)) ∈ lw_tbl := lw_at lw_m4 108 rfl
theorem q897 : (Jvm.Cond.instanceMethod ({ cls := "WaterWorks", name := "ended", desc := "(LWaterWorks$Call;)V" } : Jvm.MethodName)) ∈ lw_all := lw_g (lw_at lw_m4 109 rfl) rfl
theorem q898 : (Jvm.Cond.code ({ cls := "WaterWorks", name := "ended", desc := "(LWaterWorks$Call;)V" } : Jvm.MethodName) prog_1_method_11_code (2 : Nat) (Option.none : Option Jvm.ClassFile.FieldType)) ∈ lw_all := lw_g (lw_at lw_m4 110 rfl) rfl
theorem q899 : (Jvm.Cond.methodLink "WaterWorks" (143 : Nat) ({ cls := "WaterWorks$Guard", name := "told", desc := "(LWaterWorks$Call;LWaterWorks$Call;)V" } : Jvm.MethodName)) ∈ lw_all := lw_g (lw_at lw_m4 111 rfl) rfl
theorem q906 : (Jvm.Cond.privateMethod ({ cls := "WaterWorks", name := "alike", desc := "(LWaterWorks$Call;LWaterWorks$Call;)V" } : Jvm.MethodName)) ∈ lw_tbl := lw_at lw_m4 118 rfl
theorem q907 : (Jvm.Cond.instanceMethod ({ cls := "WaterWorks", name := "alike", desc := "(LWaterWorks$Call;LWaterWorks$Call;)V" } : Jvm.MethodName)) ∈ lw_all := lw_g (lw_at lw_m4 119 rfl) rfl
theorem q908 : (Jvm.Cond.code ({ cls := "WaterWorks", name := "alike", desc := "(LWaterWorks$Call;LWaterWorks$Call;)V" } : Jvm.MethodName) prog_1_method_10_code (3 : Nat) (Option.none : Option Jvm.ClassFile.FieldType)) ∈ lw_all := lw_g (lw_at lw_m4 120 rfl) rfl
theorem q909 : (Jvm.Cond.methodLink "WaterWorks" (130 : Nat) ({ cls := "WaterWorks", name := "good", desc := "(LWaterWorks$Call;IZ)V" } : Jvm.MethodName)) ∈ lw_all := lw_g (lw_at lw_m4 121 rfl) rfl
theorem q910 : (Jvm.Cond.privateMethod ({ cls := "WaterWorks", name := "good", desc := "(LWaterWorks$Call;IZ)V" } : Jvm.MethodName)) ∈ lw_tbl := lw_at lw_m4 122 rfl
theorem q911 : (Jvm.Cond.instanceMethod ({ cls := "WaterWorks", name := "good", desc := "(LWaterWorks$Call;IZ)V" } : Jvm.MethodName)) ∈ lw_all := lw_g (lw_at lw_m4 123 rfl) rfl
theorem q912 : (Jvm.Cond.code ({ cls := "WaterWorks", name := "good", desc := "(LWaterWorks$Call;IZ)V" } : Jvm.MethodName) prog_1_method_8_code (4 : Nat) (Option.none : Option Jvm.ClassFile.FieldType)) ∈ lw_all := lw_g (lw_at lw_m4 124 rfl) rfl
theorem q913 : (Jvm.Cond.methodLink "WaterWorks" (134 : Nat) ({ cls := "WaterWorks", name := "fails", desc := "(LWaterWorks$Call;LWaterWorks$Failure;)V" } : Jvm.MethodName)) ∈ lw_all := lw_g (lw_at lw_m4 125 rfl) rfl
theorem q929 : (Jvm.Cond.static ({ cls := "WaterWorks", name := "isUnder", desc := "(II)Z" } : Jvm.MethodName)) ∈ lw_all := lw_g (lw_at lw_m4 141 rfl) rfl
theorem q930 : (Jvm.Cond.code ({ cls := "WaterWorks", name := "isUnder", desc := "(II)Z" } : Jvm.MethodName) prog_1_method_2_code (3 : Nat) (Option.some Jvm.ClassFile.FieldType.boolean)) ∈ lw_all := lw_g (lw_at lw_m4 142 rfl) rfl
theorem q931 : (Jvm.Cond.fieldLink "WaterWorks" (3 : Nat) "WaterWorks" "ABOVE" "[I") ∈ lw_all := lw_g (lw_at lw_m4 143 rfl) rfl
theorem q932 : (Jvm.Cond.laysStatic "WaterWorks" "ABOVE" "[I") ∈ lw_tbl := lw_at lw_m4 144 rfl
theorem q964 : (Jvm.Cond.privateMethod ({ cls := "WaterWorks", name := "takeBack", desc := "(LWaterWorks$Call;)I" } : Jvm.MethodName)) ∈ lw_tbl := lw_at lw_m4 176 rfl
theorem q965 : (Jvm.Cond.instanceMethod ({ cls := "WaterWorks", name := "takeBack", desc := "(LWaterWorks$Call;)I" } : Jvm.MethodName)) ∈ lw_all := lw_g (lw_at lw_m4 177 rfl) rfl
theorem q966 : (Jvm.Cond.code ({ cls := "WaterWorks", name := "takeBack", desc := "(LWaterWorks$Call;)I" } : Jvm.MethodName) prog_1_method_12_code (4 : Nat) (Option.some Jvm.ClassFile.FieldType.int)) ∈ lw_all := lw_g (lw_at lw_m4 178 rfl) rfl
theorem q967 : (Jvm.Cond.methodLink "WaterWorks" (157 : Nat) ({ cls := "WaterWorks$Call", name := "isUnderWay", desc := "()Z" } : Jvm.MethodName)) ∈ lw_all := lw_g (lw_at lw_m4 179 rfl) rfl
theorem q968 : (Jvm.Cond.methodLink "WaterWorks" (161 : Nat) ({ cls := "WaterWorks$Call", name := "isWithin", desc := "(LWaterWorks$Call;)Z" } : Jvm.MethodName)) ∈ lw_all := lw_g (lw_at lw_m4 180 rfl) rfl
theorem q972 : (Jvm.Cond.methodLink "WaterWorks" (165 : Nat) ({ cls := "WaterWorks$Guard", name := "takenBack", desc := "(LWaterWorks$Call;)V" } : Jvm.MethodName)) ∈ lw_all := lw_g (lw_at lw_m4 184 rfl) rfl
theorem q986 : (Jvm.Cond.selects "WaterWorks" ({ cls := "java/lang/Object", name := "equals", desc := "(Ljava/lang/Object;)Z" } : Jvm.MethodName) ({ cls := "java/lang/Object", name := "equals", desc := "(Ljava/lang/Object;)Z" } : Jvm.MethodName)) ∈ lw_all := lw_g (lw_at lw_m4 198 rfl) rfl
theorem q1117 : (Jvm.Cond.instanceMethod ({ cls := "WaterWorks", name := "cancel", desc := "(I)I" } : Jvm.MethodName)) ∈ lw_all := lw_g (lw_at lw_m5 89 rfl) rfl
theorem q1118 : (Jvm.Cond.selects "WaterWorks" ({ cls := "WaterWorks", name := "cancel", desc := "(I)I" } : Jvm.MethodName) ({ cls := "WaterWorks", name := "cancel", desc := "(I)I" } : Jvm.MethodName)) ∈ lw_all := lw_g (lw_at lw_m5 90 rfl) rfl
theorem q1119 : (Jvm.Cond.code ({ cls := "WaterWorks", name := "cancel", desc := "(I)I" } : Jvm.MethodName) prog_1_method_31_code (3 : Nat) (Option.some Jvm.ClassFile.FieldType.int)) ∈ lw_all := lw_g (lw_at lw_m5 91 rfl) rfl
theorem q1120 : (Jvm.Cond.methodLink "WaterWorks" (345 : Nat) ({ cls := "WaterWorks$Order", name := "outcome", desc := "()I" } : Jvm.MethodName)) ∈ lw_all := lw_g (lw_at lw_m5 92 rfl) rfl
theorem q1124 : (Jvm.Cond.methodLink "WaterWorks" (351 : Nat) ({ cls := "WaterWorks", name := "takeBack", desc := "(LWaterWorks$Call;)I" } : Jvm.MethodName)) ∈ lw_all := lw_g (lw_at lw_m5 96 rfl) rfl
theorem q1126 : (Jvm.Cond.instanceMethod ({ cls := "WaterWorks", name := "second", desc := "(I)I" } : Jvm.MethodName)) ∈ lw_all := lw_g (lw_at lw_m5 98 rfl) rfl
theorem q1127 : (Jvm.Cond.selects "WaterWorks" ({ cls := "WaterWorks", name := "second", desc := "(I)I" } : Jvm.MethodName) ({ cls := "WaterWorks", name := "second", desc := "(I)I" } : Jvm.MethodName)) ∈ lw_all := lw_g (lw_at lw_m5 99 rfl) rfl
theorem q1128 : (Jvm.Cond.code ({ cls := "WaterWorks", name := "second", desc := "(I)I" } : Jvm.MethodName) prog_1_method_32_code (3 : Nat) (Option.some Jvm.ClassFile.FieldType.int)) ∈ lw_all := lw_g (lw_at lw_m5 100 rfl) rfl
theorem q1129 : (Jvm.Cond.methodLink "WaterWorks" (355 : Nat) ({ cls := "WaterWorks", name := "pass", desc := "()V" } : Jvm.MethodName)) ∈ lw_all := lw_g (lw_at lw_m5 101 rfl) rfl
theorem q1130 : (Jvm.Cond.privateMethod ({ cls := "WaterWorks", name := "pass", desc := "()V" } : Jvm.MethodName)) ∈ lw_tbl := lw_at lw_m5 102 rfl
theorem q1131 : (Jvm.Cond.instanceMethod ({ cls := "WaterWorks", name := "pass", desc := "()V" } : Jvm.MethodName)) ∈ lw_all := lw_g (lw_at lw_m5 103 rfl) rfl
theorem q1132 : (Jvm.Cond.code ({ cls := "WaterWorks", name := "pass", desc := "()V" } : Jvm.MethodName) prog_1_method_17_code (4 : Nat) (Option.none : Option Jvm.ClassFile.FieldType)) ∈ lw_all := lw_g (lw_at lw_m5 104 rfl) rfl
theorem q1133 : (Jvm.Cond.methodLink "WaterWorks" (226 : Nat) ({ cls := "WaterWorks$Guard", name := "newSecond", desc := "()V" } : Jvm.MethodName)) ∈ lw_all := lw_g (lw_at lw_m5 105 rfl) rfl
theorem q1150 : (Jvm.Cond.methodLink "WaterWorks" (229 : Nat) ({ cls := "WaterWorks", name := "ends", desc := "(LWaterWorks$Call;)V" } : Jvm.MethodName)) ∈ lw_all := lw_g (lw_at lw_m5 122 rfl) rfl
theorem q1151 : (Jvm.Cond.privateMethod ({ cls := "WaterWorks", name := "ends", desc := "(LWaterWorks$Call;)V" } : Jvm.MethodName)) ∈ lw_tbl := lw_at lw_m5 123 rfl
theorem q1152 : (Jvm.Cond.instanceMethod ({ cls := "WaterWorks", name := "ends", desc := "(LWaterWorks$Call;)V" } : Jvm.MethodName)) ∈ lw_all := lw_g (lw_at lw_m5 124 rfl) rfl
theorem q1153 : (Jvm.Cond.code ({ cls := "WaterWorks", name := "ends", desc := "(LWaterWorks$Call;)V" } : Jvm.MethodName) prog_1_method_13_code (5 : Nat) (Option.none : Option Jvm.ClassFile.FieldType)) ∈ lw_all := lw_g (lw_at lw_m5 125 rfl) rfl
theorem q1154 : (Jvm.Cond.methodLink "WaterWorks" (172 : Nat) ({ cls := "WaterWorks", name := "failed", desc := "(III)LWaterWorks$Failure;" } : Jvm.MethodName)) ∈ lw_all := lw_g (lw_at lw_m5 126 rfl) rfl
theorem q1155 : (Jvm.Cond.methodLink "WaterWorks" (179 : Nat) ({ cls := "WaterWorks", name := "keyed", desc := "(II)LWaterWorks$Effect;" } : Jvm.MethodName)) ∈ lw_all := lw_g (lw_at lw_m5 127 rfl) rfl
theorem q1156 : (Jvm.Cond.privateMethod ({ cls := "WaterWorks", name := "keyed", desc := "(II)LWaterWorks$Effect;" } : Jvm.MethodName)) ∈ lw_tbl := lw_at lw_m5 128 rfl
theorem q1157 : (Jvm.Cond.instanceMethod ({ cls := "WaterWorks", name := "keyed", desc := "(II)LWaterWorks$Effect;" } : Jvm.MethodName)) ∈ lw_all := lw_g (lw_at lw_m5 129 rfl) rfl
theorem q1158 : (Jvm.Cond.code ({ cls := "WaterWorks", name := "keyed", desc := "(II)LWaterWorks$Effect;" } : Jvm.MethodName) prog_1_method_14_code (4 : Nat) (Option.some (Jvm.ClassFile.FieldType.object "WaterWorks$Effect"))) ∈ lw_all := lw_g (lw_at lw_m5 130 rfl) rfl
theorem q1159 : (Jvm.Cond.classLink "WaterWorks" (187 : Nat) "WaterWorks$Effect") ∈ lw_all := lw_g (lw_at lw_m5 131 rfl) rfl
theorem q1160 : (Jvm.Cond.methodLink "WaterWorks" (191 : Nat) ({ cls := "java/lang/Math", name := "abs", desc := "(I)I" } : Jvm.MethodName)) ∈ lw_all := lw_g (lw_at lw_m5 132 rfl) rfl
theorem q1163 : (Jvm.Cond.methodLink "WaterWorks" (203 : Nat) ({ cls := "WaterWorks", name := "moves", desc := "(LWaterWorks$Call;LWaterWorks$Station;I)V" } : Jvm.MethodName)) ∈ lw_all := lw_g (lw_at lw_m5 135 rfl) rfl
theorem q1164 : (Jvm.Cond.privateMethod ({ cls := "WaterWorks", name := "moves", desc := "(LWaterWorks$Call;LWaterWorks$Station;I)V" } : Jvm.MethodName)) ∈ lw_tbl := lw_at lw_m5 136 rfl
theorem q1165 : (Jvm.Cond.instanceMethod ({ cls := "WaterWorks", name := "moves", desc := "(LWaterWorks$Call;LWaterWorks$Station;I)V" } : Jvm.MethodName)) ∈ lw_all := lw_g (lw_at lw_m5 137 rfl) rfl
theorem q1166 : (Jvm.Cond.code ({ cls := "WaterWorks", name := "moves", desc := "(LWaterWorks$Call;LWaterWorks$Station;I)V" } : Jvm.MethodName) prog_1_method_15_code (4 : Nat) (Option.none : Option Jvm.ClassFile.FieldType)) ∈ lw_all := lw_g (lw_at lw_m5 138 rfl) rfl
theorem q1168 : (Jvm.Cond.methodLink "WaterWorks" (212 : Nat) ({ cls := "WaterWorks$Effect", name := "<init>", desc := "(ILWaterWorks$Order;II)V" } : Jvm.MethodName)) ∈ lw_all := lw_g (lw_at lw_m5 140 rfl) rfl
theorem q1173 : (Jvm.Cond.fieldLinkNest "WaterWorks" (210 : Nat) "WaterWorks$Effect" "station" "I" "WaterWorks") ∈ lw_tbl := lw_at lw_m5 145 rfl
theorem q1175 : (Jvm.Cond.fieldLinkNest "WaterWorks" (460 : Nat) "WaterWorks$Effect" "order" "I" "WaterWorks") ∈ lw_tbl := lw_at lw_m5 147 rfl
theorem q1177 : (Jvm.Cond.fieldLinkNest "WaterWorks" (211 : Nat) "WaterWorks$Effect" "key" "I" "WaterWorks") ∈ lw_tbl := lw_at lw_m5 149 rfl
theorem q1179 : (Jvm.Cond.fieldLinkNest "WaterWorks" (186 : Nat) "WaterWorks$Effect" "litres" "I" "WaterWorks") ∈ lw_tbl := lw_at lw_m5 151 rfl
theorem q1181 : (Jvm.Cond.fieldLinkNest "WaterWorks" (462 : Nat) "WaterWorks$Effect" "second" "I" "WaterWorks") ∈ lw_tbl := lw_at lw_m5 153 rfl
theorem q1193 : (Jvm.Cond.methodLink "WaterWorks" (232 : Nat) ({ cls := "WaterWorks", name := "dueOf", desc := "(I)V" } : Jvm.MethodName)) ∈ lw_all := lw_g (lw_at lw_m5 165 rfl) rfl
theorem q1194 : (Jvm.Cond.privateMethod ({ cls := "WaterWorks", name := "dueOf", desc := "(I)V" } : Jvm.MethodName)) ∈ lw_tbl := lw_at lw_m5 166 rfl
theorem q1195 : (Jvm.Cond.instanceMethod ({ cls := "WaterWorks", name := "dueOf", desc := "(I)V" } : Jvm.MethodName)) ∈ lw_all := lw_g (lw_at lw_m5 167 rfl) rfl
theorem q1196 : (Jvm.Cond.code ({ cls := "WaterWorks", name := "dueOf", desc := "(I)V" } : Jvm.MethodName) prog_1_method_16_code (4 : Nat) (Option.none : Option Jvm.ClassFile.FieldType)) ∈ lw_all := lw_g (lw_at lw_m5 168 rfl) rfl
theorem q1197 : (Jvm.Cond.methodLink "WaterWorks" (221 : Nat) ({ cls := "WaterWorks$Guard", name := "due", desc := "(LWaterWorks$Call;)V" } : Jvm.MethodName)) ∈ lw_all := lw_g (lw_at lw_m5 169 rfl) rfl
theorem q1225 : (Jvm.Cond.methodLink "WaterWorks" (238 : Nat) ({ cls := "WaterWorks$Bulkhead", name := "letsIn", desc := "()V" } : Jvm.MethodName)) ∈ lw_all := lw_g (lw_at lw_m5 197 rfl) rfl
theorem q1234 : (Jvm.Cond.classLink "WaterWorks" (244 : Nat) "WaterWorks$Work") ∈ lw_all := lw_g (lw_at lw_m5 206 rfl) rfl
theorem q1235 : (Jvm.Cond.methodLink "WaterWorks" (246 : Nat) ({ cls := "WaterWorks$Work", name := "pass", desc := "()V" } : Jvm.MethodName)) ∈ lw_all := lw_g (lw_at lw_m5 207 rfl) rfl
theorem q1244 : (Jvm.Cond.classLink "WaterWorks" (252 : Nat) "WaterWorks$Alarm") ∈ lw_all := lw_g (lw_at lw_m5 216 rfl) rfl
theorem q1245 : (Jvm.Cond.methodLink "WaterWorks" (254 : Nat) ({ cls := "WaterWorks$Alarm", name := "look", desc := "()V" } : Jvm.MethodName)) ∈ lw_all := lw_g (lw_at lw_m5 217 rfl) rfl
theorem q1274 : (Jvm.Cond.instanceMethod ({ cls := "WaterWorks", name := "plan", desc := "(IIIIIII)I" } : Jvm.MethodName)) ∈ lw_all := lw_g (lw_at lw_m6 6 rfl) rfl
theorem q1275 : (Jvm.Cond.selects "WaterWorks" ({ cls := "WaterWorks", name := "plan", desc := "(IIIIIII)I" } : Jvm.MethodName) ({ cls := "WaterWorks", name := "plan", desc := "(IIIIIII)I" } : Jvm.MethodName)) ∈ lw_all := lw_g (lw_at lw_m6 7 rfl) rfl
theorem q1276 : (Jvm.Cond.code ({ cls := "WaterWorks", name := "plan", desc := "(IIIIIII)I" } : Jvm.MethodName) prog_1_method_33_code (8 : Nat) (Option.some Jvm.ClassFile.FieldType.int)) ∈ lw_all := lw_g (lw_at lw_m6 8 rfl) rfl
theorem q1278 : (Jvm.Cond.methodLink "WaterWorks" (356 : Nat) ({ cls := "WaterWorks$Work", name := "<init>", desc := "(LWaterWorks;IIIIIII)V" } : Jvm.MethodName)) ∈ lw_all := lw_g (lw_at lw_m6 10 rfl) rfl
theorem q1291 : (Jvm.Cond.fieldLinkNest "WaterWorks" (362 : Nat) "WaterWorks$Work" "orders" "I" "WaterWorks") ∈ lw_tbl := lw_at lw_m6 23 rfl
theorem q1293 : (Jvm.Cond.fieldLinkNest "WaterWorks" (364 : Nat) "WaterWorks$Work" "latest" "I" "WaterWorks") ∈ lw_tbl := lw_at lw_m6 25 rfl
theorem q1295 : (Jvm.Cond.fieldLinkNest "WaterWorks" (367 : Nat) "WaterWorks$Work" "missed" "I" "WaterWorks") ∈ lw_tbl := lw_at lw_m6 27 rfl
theorem q1297 : (Jvm.Cond.fieldLinkNest "WaterWorks" (370 : Nat) "WaterWorks$Work" "passed" "I" "WaterWorks") ∈ lw_tbl := lw_at lw_m6 29 rfl
theorem q1299 : (Jvm.Cond.fieldLinkNest "WaterWorks" (359 : Nat) "WaterWorks$Work" "stopped" "Z" "WaterWorks") ∈ lw_tbl := lw_at lw_m6 31 rfl
theorem q1331 : (Jvm.Cond.instanceMethod ({ cls := "WaterWorks", name := "stop", desc := "(I)I" } : Jvm.MethodName)) ∈ lw_all := lw_g (lw_at lw_m6 63 rfl) rfl
theorem q1332 : (Jvm.Cond.selects "WaterWorks" ({ cls := "WaterWorks", name := "stop", desc := "(I)I" } : Jvm.MethodName) ({ cls := "WaterWorks", name := "stop", desc := "(I)I" } : Jvm.MethodName)) ∈ lw_all := lw_g (lw_at lw_m6 64 rfl) rfl
theorem q1333 : (Jvm.Cond.code ({ cls := "WaterWorks", name := "stop", desc := "(I)I" } : Jvm.MethodName) prog_1_method_34_code (3 : Nat) (Option.some Jvm.ClassFile.FieldType.int)) ∈ lw_all := lw_g (lw_at lw_m6 65 rfl) rfl
theorem q1335 : (Jvm.Cond.instanceMethod ({ cls := "WaterWorks", name := "planned", desc := "(II)I" } : Jvm.MethodName)) ∈ lw_all := lw_g (lw_at lw_m6 67 rfl) rfl
theorem q1336 : (Jvm.Cond.selects "WaterWorks" ({ cls := "WaterWorks", name := "planned", desc := "(II)I" } : Jvm.MethodName) ({ cls := "WaterWorks", name := "planned", desc := "(II)I" } : Jvm.MethodName)) ∈ lw_all := lw_g (lw_at lw_m6 68 rfl) rfl
theorem q1337 : (Jvm.Cond.code ({ cls := "WaterWorks", name := "planned", desc := "(II)I" } : Jvm.MethodName) prog_1_method_35_code (4 : Nat) (Option.some Jvm.ClassFile.FieldType.int)) ∈ lw_all := lw_g (lw_at lw_m6 69 rfl) rfl
theorem q1339 : (Jvm.Cond.instanceMethod ({ cls := "WaterWorks", name := "alarm", desc := "(III)I" } : Jvm.MethodName)) ∈ lw_all := lw_g (lw_at lw_m6 71 rfl) rfl
theorem q1340 : (Jvm.Cond.selects "WaterWorks" ({ cls := "WaterWorks", name := "alarm", desc := "(III)I" } : Jvm.MethodName) ({ cls := "WaterWorks", name := "alarm", desc := "(III)I" } : Jvm.MethodName)) ∈ lw_all := lw_g (lw_at lw_m6 72 rfl) rfl
theorem q1341 : (Jvm.Cond.code ({ cls := "WaterWorks", name := "alarm", desc := "(III)I" } : Jvm.MethodName) prog_1_method_38_code (4 : Nat) (Option.some Jvm.ClassFile.FieldType.int)) ∈ lw_all := lw_g (lw_at lw_m6 73 rfl) rfl
theorem q1342 : (Jvm.Cond.methodLink "WaterWorks" (373 : Nat) ({ cls := "WaterWorks", name := "fuseOf", desc := "(I)LWaterWorks$Fuse;" } : Jvm.MethodName)) ∈ lw_all := lw_g (lw_at lw_m6 74 rfl) rfl
theorem q1343 : (Jvm.Cond.privateMethod ({ cls := "WaterWorks", name := "fuseOf", desc := "(I)LWaterWorks$Fuse;" } : Jvm.MethodName)) ∈ lw_tbl := lw_at lw_m6 75 rfl
theorem q1344 : (Jvm.Cond.instanceMethod ({ cls := "WaterWorks", name := "fuseOf", desc := "(I)LWaterWorks$Fuse;" } : Jvm.MethodName)) ∈ lw_all := lw_g (lw_at lw_m6 76 rfl) rfl
theorem q1345 : (Jvm.Cond.code ({ cls := "WaterWorks", name := "fuseOf", desc := "(I)LWaterWorks$Fuse;" } : Jvm.MethodName) prog_1_method_36_code (4 : Nat) (Option.some (Jvm.ClassFile.FieldType.object "WaterWorks$Fuse"))) ∈ lw_all := lw_g (lw_at lw_m6 77 rfl) rfl
theorem q1346 : (Jvm.Cond.methodLink "WaterWorks" (377 : Nat) ({ cls := "WaterWorks", name := "bulkheadOf", desc := "(I)LWaterWorks$Bulkhead;" } : Jvm.MethodName)) ∈ lw_all := lw_g (lw_at lw_m6 78 rfl) rfl
theorem q1347 : (Jvm.Cond.privateMethod ({ cls := "WaterWorks", name := "bulkheadOf", desc := "(I)LWaterWorks$Bulkhead;" } : Jvm.MethodName)) ∈ lw_tbl := lw_at lw_m6 79 rfl
theorem q1348 : (Jvm.Cond.instanceMethod ({ cls := "WaterWorks", name := "bulkheadOf", desc := "(I)LWaterWorks$Bulkhead;" } : Jvm.MethodName)) ∈ lw_all := lw_g (lw_at lw_m6 80 rfl) rfl
theorem q1349 : (Jvm.Cond.code ({ cls := "WaterWorks", name := "bulkheadOf", desc := "(I)LWaterWorks$Bulkhead;" } : Jvm.MethodName) prog_1_method_37_code (4 : Nat) (Option.some (Jvm.ClassFile.FieldType.object "WaterWorks$Bulkhead"))) ∈ lw_all := lw_g (lw_at lw_m6 81 rfl) rfl
theorem q1350 : (Jvm.Cond.classLink "WaterWorks" (381 : Nat) "WaterWorks$FuseAlarm") ∈ lw_all := lw_g (lw_at lw_m6 82 rfl) rfl
theorem q1352 : (Jvm.Cond.methodLink "WaterWorks" (383 : Nat) ({ cls := "WaterWorks$FuseAlarm", name := "<init>", desc := "(LWaterWorks;LWaterWorks$Fuse;)V" } : Jvm.MethodName)) ∈ lw_all := lw_g (lw_at lw_m6 84 rfl) rfl
theorem q1362 : (Jvm.Cond.fieldLinkNest "WaterWorks" (401 : Nat) "WaterWorks$Alarm" "on" "Z" "WaterWorks") ∈ lw_tbl := lw_at lw_m6 94 rfl
theorem q1364 : (Jvm.Cond.fieldLinkNest "WaterWorks" (404 : Nat) "WaterWorks$Alarm" "rings" "I" "WaterWorks") ∈ lw_tbl := lw_at lw_m6 96 rfl
theorem q1366 : (Jvm.Cond.fieldLinkNest "WaterWorks" (407 : Nat) "WaterWorks$Alarm" "latest" "I" "WaterWorks") ∈ lw_tbl := lw_at lw_m6 98 rfl
theorem q1381 : (Jvm.Cond.classLink "WaterWorks" (386 : Nat) "WaterWorks$LevelAlarm") ∈ lw_all := lw_g (lw_at lw_m6 113 rfl) rfl
theorem q1383 : (Jvm.Cond.methodLink "WaterWorks" (388 : Nat) ({ cls := "WaterWorks$LevelAlarm", name := "<init>", desc := "(LWaterWorks;LWaterWorks$Station;I)V" } : Jvm.MethodName)) ∈ lw_all := lw_g (lw_at lw_m6 115 rfl) rfl
theorem q1401 : (Jvm.Cond.classLink "WaterWorks" (391 : Nat) "WaterWorks$WaitAlarm") ∈ lw_all := lw_g (lw_at lw_m6 133 rfl) rfl
theorem q1403 : (Jvm.Cond.methodLink "WaterWorks" (393 : Nat) ({ cls := "WaterWorks$WaitAlarm", name := "<init>", desc := "(LWaterWorks;LWaterWorks$Bulkhead;I)V" } : Jvm.MethodName)) ∈ lw_all := lw_g (lw_at lw_m6 135 rfl) rfl
theorem q1421 : (Jvm.Cond.classLink "WaterWorks" (396 : Nat) "WaterWorks$AgeAlarm") ∈ lw_all := lw_g (lw_at lw_m6 153 rfl) rfl
theorem q1423 : (Jvm.Cond.methodLink "WaterWorks" (398 : Nat) ({ cls := "WaterWorks$AgeAlarm", name := "<init>", desc := "(LWaterWorks;I)V" } : Jvm.MethodName)) ∈ lw_all := lw_g (lw_at lw_m6 155 rfl) rfl
theorem q1439 : (Jvm.Cond.instanceMethod ({ cls := "WaterWorks", name := "alarmed", desc := "(II)I" } : Jvm.MethodName)) ∈ lw_all := lw_g (lw_at lw_m6 171 rfl) rfl
theorem q1440 : (Jvm.Cond.selects "WaterWorks" ({ cls := "WaterWorks", name := "alarmed", desc := "(II)I" } : Jvm.MethodName) ({ cls := "WaterWorks", name := "alarmed", desc := "(II)I" } : Jvm.MethodName)) ∈ lw_all := lw_g (lw_at lw_m6 172 rfl) rfl
theorem q1441 : (Jvm.Cond.code ({ cls := "WaterWorks", name := "alarmed", desc := "(II)I" } : Jvm.MethodName) prog_1_method_39_code (4 : Nat) (Option.some Jvm.ClassFile.FieldType.int)) ∈ lw_all := lw_g (lw_at lw_m6 173 rfl) rfl
theorem q1443 : (Jvm.Cond.instanceMethod ({ cls := "WaterWorks", name := "now", desc := "()I" } : Jvm.MethodName)) ∈ lw_all := lw_g (lw_at lw_m6 175 rfl) rfl
theorem q1444 : (Jvm.Cond.selects "WaterWorks" ({ cls := "WaterWorks", name := "now", desc := "()I" } : Jvm.MethodName) ({ cls := "WaterWorks", name := "now", desc := "()I" } : Jvm.MethodName)) ∈ lw_all := lw_g (lw_at lw_m6 176 rfl) rfl
theorem q1445 : (Jvm.Cond.code ({ cls := "WaterWorks", name := "now", desc := "()I" } : Jvm.MethodName) prog_1_method_40_code (1 : Nat) (Option.some Jvm.ClassFile.FieldType.int)) ∈ lw_all := lw_g (lw_at lw_m6 177 rfl) rfl
theorem q1447 : (Jvm.Cond.instanceMethod ({ cls := "WaterWorks", name := "outcome", desc := "(I)I" } : Jvm.MethodName)) ∈ lw_all := lw_g (lw_at lw_m6 179 rfl) rfl
theorem q1448 : (Jvm.Cond.selects "WaterWorks" ({ cls := "WaterWorks", name := "outcome", desc := "(I)I" } : Jvm.MethodName) ({ cls := "WaterWorks", name := "outcome", desc := "(I)I" } : Jvm.MethodName)) ∈ lw_all := lw_g (lw_at lw_m6 180 rfl) rfl
theorem q1449 : (Jvm.Cond.code ({ cls := "WaterWorks", name := "outcome", desc := "(I)I" } : Jvm.MethodName) prog_1_method_41_code (2 : Nat) (Option.some Jvm.ClassFile.FieldType.int)) ∈ lw_all := lw_g (lw_at lw_m6 181 rfl) rfl
theorem q1451 : (Jvm.Cond.instanceMethod ({ cls := "WaterWorks", name := "of", desc := "(II)I" } : Jvm.MethodName)) ∈ lw_all := lw_g (lw_at lw_m6 183 rfl) rfl
theorem q1452 : (Jvm.Cond.selects "WaterWorks" ({ cls := "WaterWorks", name := "of", desc := "(II)I" } : Jvm.MethodName) ({ cls := "WaterWorks", name := "of", desc := "(II)I" } : Jvm.MethodName)) ∈ lw_all := lw_g (lw_at lw_m6 184 rfl) rfl
theorem q1453 : (Jvm.Cond.code ({ cls := "WaterWorks", name := "of", desc := "(II)I" } : Jvm.MethodName) prog_1_method_42_code (4 : Nat) (Option.some Jvm.ClassFile.FieldType.int)) ∈ lw_all := lw_g (lw_at lw_m6 185 rfl) rfl
theorem q1454 : (Jvm.Cond.methodLinkNest "WaterWorks" (408 : Nat) ({ cls := "WaterWorks$Failure", name := "numberOf", desc := "(LWaterWorks$Failure;)I" } : Jvm.MethodName) "WaterWorks") ∈ lw_tbl := lw_at lw_m6 186 rfl
theorem q1458 : (Jvm.Cond.instanceMethod ({ cls := "WaterWorks", name := "failure", desc := "(II)I" } : Jvm.MethodName)) ∈ lw_all := lw_g (lw_at lw_m6 190 rfl) rfl
theorem q1459 : (Jvm.Cond.selects "WaterWorks" ({ cls := "WaterWorks", name := "failure", desc := "(II)I" } : Jvm.MethodName) ({ cls := "WaterWorks", name := "failure", desc := "(II)I" } : Jvm.MethodName)) ∈ lw_all := lw_g (lw_at lw_m6 191 rfl) rfl
theorem q1460 : (Jvm.Cond.code ({ cls := "WaterWorks", name := "failure", desc := "(II)I" } : Jvm.MethodName) prog_1_method_43_code (4 : Nat) (Option.some Jvm.ClassFile.FieldType.int)) ∈ lw_all := lw_g (lw_at lw_m6 192 rfl) rfl
theorem q1462 : (Jvm.Cond.instanceMethod ({ cls := "WaterWorks", name := "call", desc := "(II)I" } : Jvm.MethodName)) ∈ lw_all := lw_g (lw_at lw_m6 194 rfl) rfl
theorem q1463 : (Jvm.Cond.selects "WaterWorks" ({ cls := "WaterWorks", name := "call", desc := "(II)I" } : Jvm.MethodName) ({ cls := "WaterWorks", name := "call", desc := "(II)I" } : Jvm.MethodName)) ∈ lw_all := lw_g (lw_at lw_m6 195 rfl) rfl
theorem q1464 : (Jvm.Cond.code ({ cls := "WaterWorks", name := "call", desc := "(II)I" } : Jvm.MethodName) prog_1_method_44_code (4 : Nat) (Option.some Jvm.ClassFile.FieldType.int)) ∈ lw_all := lw_g (lw_at lw_m6 196 rfl) rfl
theorem q1466 : (Jvm.Cond.instanceMethod ({ cls := "WaterWorks", name := "fuse", desc := "(II)I" } : Jvm.MethodName)) ∈ lw_all := lw_g (lw_at lw_m6 198 rfl) rfl
theorem q1467 : (Jvm.Cond.selects "WaterWorks" ({ cls := "WaterWorks", name := "fuse", desc := "(II)I" } : Jvm.MethodName) ({ cls := "WaterWorks", name := "fuse", desc := "(II)I" } : Jvm.MethodName)) ∈ lw_all := lw_g (lw_at lw_m6 199 rfl) rfl
theorem q1468 : (Jvm.Cond.code ({ cls := "WaterWorks", name := "fuse", desc := "(II)I" } : Jvm.MethodName) prog_1_method_45_code (4 : Nat) (Option.some Jvm.ClassFile.FieldType.int)) ∈ lw_all := lw_g (lw_at lw_m6 200 rfl) rfl
theorem q1470 : (Jvm.Cond.instanceMethod ({ cls := "WaterWorks", name := "bulkhead", desc := "(II)I" } : Jvm.MethodName)) ∈ lw_all := lw_g (lw_at lw_m6 202 rfl) rfl
theorem q1471 : (Jvm.Cond.selects "WaterWorks" ({ cls := "WaterWorks", name := "bulkhead", desc := "(II)I" } : Jvm.MethodName) ({ cls := "WaterWorks", name := "bulkhead", desc := "(II)I" } : Jvm.MethodName)) ∈ lw_all := lw_g (lw_at lw_m6 203 rfl) rfl
theorem q1472 : (Jvm.Cond.code ({ cls := "WaterWorks", name := "bulkhead", desc := "(II)I" } : Jvm.MethodName) prog_1_method_46_code (4 : Nat) (Option.some Jvm.ClassFile.FieldType.int)) ∈ lw_all := lw_g (lw_at lw_m6 204 rfl) rfl
theorem q1474 : (Jvm.Cond.instanceMethod ({ cls := "WaterWorks", name := "waiting", desc := "(II)I" } : Jvm.MethodName)) ∈ lw_all := lw_g (lw_at lw_m6 206 rfl) rfl
theorem q1475 : (Jvm.Cond.selects "WaterWorks" ({ cls := "WaterWorks", name := "waiting", desc := "(II)I" } : Jvm.MethodName) ({ cls := "WaterWorks", name := "waiting", desc := "(II)I" } : Jvm.MethodName)) ∈ lw_all := lw_g (lw_at lw_m6 207 rfl) rfl
theorem q1476 : (Jvm.Cond.code ({ cls := "WaterWorks", name := "waiting", desc := "(II)I" } : Jvm.MethodName) prog_1_method_47_code (4 : Nat) (Option.some Jvm.ClassFile.FieldType.int)) ∈ lw_all := lw_g (lw_at lw_m6 208 rfl) rfl
theorem q1478 : (Jvm.Cond.instanceMethod ({ cls := "WaterWorks", name := "tokens", desc := "(I)I" } : Jvm.MethodName)) ∈ lw_all := lw_g (lw_at lw_m6 210 rfl) rfl
theorem q1479 : (Jvm.Cond.selects "WaterWorks" ({ cls := "WaterWorks", name := "tokens", desc := "(I)I" } : Jvm.MethodName) ({ cls := "WaterWorks", name := "tokens", desc := "(I)I" } : Jvm.MethodName)) ∈ lw_all := lw_g (lw_at lw_m6 211 rfl) rfl
theorem q1480 : (Jvm.Cond.code ({ cls := "WaterWorks", name := "tokens", desc := "(I)I" } : Jvm.MethodName) prog_1_method_48_code (4 : Nat) (Option.some Jvm.ClassFile.FieldType.int)) ∈ lw_all := lw_g (lw_at lw_m6 212 rfl) rfl
theorem q1482 : (Jvm.Cond.instanceMethod ({ cls := "WaterWorks", name := "kept", desc := "(III)I" } : Jvm.MethodName)) ∈ lw_all := lw_g (lw_at lw_m6 214 rfl) rfl
theorem q1483 : (Jvm.Cond.selects "WaterWorks" ({ cls := "WaterWorks", name := "kept", desc := "(III)I" } : Jvm.MethodName) ({ cls := "WaterWorks", name := "kept", desc := "(III)I" } : Jvm.MethodName)) ∈ lw_all := lw_g (lw_at lw_m6 215 rfl) rfl
theorem q1484 : (Jvm.Cond.code ({ cls := "WaterWorks", name := "kept", desc := "(III)I" } : Jvm.MethodName) prog_1_method_49_code (6 : Nat) (Option.some Jvm.ClassFile.FieldType.int)) ∈ lw_all := lw_g (lw_at lw_m6 216 rfl) rfl
theorem q1486 : (Jvm.Cond.instanceMethod ({ cls := "WaterWorks", name := "joined", desc := "(II)I" } : Jvm.MethodName)) ∈ lw_all := lw_g (lw_at lw_m6 218 rfl) rfl
theorem q1487 : (Jvm.Cond.selects "WaterWorks" ({ cls := "WaterWorks", name := "joined", desc := "(II)I" } : Jvm.MethodName) ({ cls := "WaterWorks", name := "joined", desc := "(II)I" } : Jvm.MethodName)) ∈ lw_all := lw_g (lw_at lw_m6 219 rfl) rfl
theorem q1488 : (Jvm.Cond.code ({ cls := "WaterWorks", name := "joined", desc := "(II)I" } : Jvm.MethodName) prog_1_method_50_code (5 : Nat) (Option.some Jvm.ClassFile.FieldType.int)) ∈ lw_all := lw_g (lw_at lw_m6 220 rfl) rfl
theorem q1490 : (Jvm.Cond.instanceMethod ({ cls := "WaterWorks", name := "level", desc := "(I)I" } : Jvm.MethodName)) ∈ lw_all := lw_g (lw_at lw_m6 222 rfl) rfl
theorem q1491 : (Jvm.Cond.selects "WaterWorks" ({ cls := "WaterWorks", name := "level", desc := "(I)I" } : Jvm.MethodName) ({ cls := "WaterWorks", name := "level", desc := "(I)I" } : Jvm.MethodName)) ∈ lw_all := lw_g (lw_at lw_m6 223 rfl) rfl
theorem q1492 : (Jvm.Cond.code ({ cls := "WaterWorks", name := "level", desc := "(I)I" } : Jvm.MethodName) prog_1_method_51_code (2 : Nat) (Option.some Jvm.ClassFile.FieldType.int)) ∈ lw_all := lw_g (lw_at lw_m6 224 rfl) rfl
theorem q1494 : (Jvm.Cond.instanceMethod ({ cls := "WaterWorks", name := "effect", desc := "(II)I" } : Jvm.MethodName)) ∈ lw_all := lw_g (lw_at lw_m6 226 rfl) rfl
theorem q1495 : (Jvm.Cond.selects "WaterWorks" ({ cls := "WaterWorks", name := "effect", desc := "(II)I" } : Jvm.MethodName) ({ cls := "WaterWorks", name := "effect", desc := "(II)I" } : Jvm.MethodName)) ∈ lw_all := lw_g (lw_at lw_m6 227 rfl) rfl
theorem q1496 : (Jvm.Cond.code ({ cls := "WaterWorks", name := "effect", desc := "(II)I" } : Jvm.MethodName) prog_1_method_52_code (4 : Nat) (Option.some Jvm.ClassFile.FieldType.int)) ∈ lw_all := lw_g (lw_at lw_m6 228 rfl) rfl
theorem q1498 : (Jvm.Cond.instanceMethod ({ cls := "WaterWorks", name := "isOf", desc := "(II)I" } : Jvm.MethodName)) ∈ lw_all := lw_g (lw_at lw_m6 230 rfl) rfl
theorem q1499 : (Jvm.Cond.selects "WaterWorks" ({ cls := "WaterWorks", name := "isOf", desc := "(II)I" } : Jvm.MethodName) ({ cls := "WaterWorks", name := "isOf", desc := "(II)I" } : Jvm.MethodName)) ∈ lw_all := lw_g (lw_at lw_m6 231 rfl) rfl
theorem q1500 : (Jvm.Cond.code ({ cls := "WaterWorks", name := "isOf", desc := "(II)I" } : Jvm.MethodName) prog_1_method_53_code (3 : Nat) (Option.some Jvm.ClassFile.FieldType.int)) ∈ lw_all := lw_g (lw_at lw_m6 232 rfl) rfl
theorem q1501 : (Jvm.Cond.methodLink "WaterWorks" (463 : Nat) ({ cls := "WaterWorks", name := "isUnder", desc := "(II)Z" } : Jvm.MethodName)) ∈ lw_all := lw_g (lw_at lw_m6 233 rfl) rfl
theorem q1503 : (Jvm.Cond.instanceMethod ({ cls := "WaterWorks", name := "count", desc := "(I)I" } : Jvm.MethodName)) ∈ lw_all := lw_g (lw_at lw_m6 235 rfl) rfl
theorem q1504 : (Jvm.Cond.selects "WaterWorks" ({ cls := "WaterWorks", name := "count", desc := "(I)I" } : Jvm.MethodName) ({ cls := "WaterWorks", name := "count", desc := "(I)I" } : Jvm.MethodName)) ∈ lw_all := lw_g (lw_at lw_m6 236 rfl) rfl
theorem q1505 : (Jvm.Cond.code ({ cls := "WaterWorks", name := "count", desc := "(I)I" } : Jvm.MethodName) prog_1_method_54_code (4 : Nat) (Option.some Jvm.ClassFile.FieldType.int)) ∈ lw_all := lw_g (lw_at lw_m6 237 rfl) rfl
theorem q2135 : (Jvm.Cond.castable "WaterWorks" "java/lang/Object") ∈ lw_tbl := lw_at lw_m9 147 rfl
theorem in_X0 : ∀ w ∈ wsX00, w ∈ lw_all := lw_in wsX00 [164, 166, 168, 170, 172, 174, 176, 178, 180, 182, 184, 186, 188, 190] (by decide +kernel) (by decide +kernel)
/-! WaterWorksModel -/
def RX1 : String := "WaterWorksModel"
def TX1 : u_T := fun k => match k with
  | 0 => ("WaterWorksModel", "time", "I", false)
  | 1 => ("WaterWorksModel", "stations", "I", false)
  | 2 => ("WaterWorksModel", "levels", "[I", true)
  | 3 => ("WaterWorksModel", "capacity", "[I", true)
  | 4 => ("WaterWorksModel", "delay", "[I", true)
  | 5 => ("WaterWorksModel", "faults", "I", false)
  | 6 => ("WaterWorksModel", "faultAt", "[I", true)
  | 7 => ("WaterWorksModel", "faultAct", "[I", true)
  | 8 => ("WaterWorksModel", "faultFrom", "[I", true)
  | 9 => ("WaterWorksModel", "faultTo", "[I", true)
  | 10 => ("WaterWorksModel", "faultKind", "[I", true)
  | 11 => ("WaterWorksModel", "slows", "I", false)
  | 12 => ("WaterWorksModel", "slowAt", "[I", true)
  | 13 => ("WaterWorksModel", "slowAct", "[I", true)
  | 14 => ("WaterWorksModel", "slowFrom", "[I", true)
  | 15 => ("WaterWorksModel", "slowTo", "[I", true)
  | 16 => ("WaterWorksModel", "slowBy", "[I", true)
  | 17 => ("WaterWorksModel", "effects", "I", false)
  | 18 => ("WaterWorksModel", "effectAt", "[I", true)
  | 19 => ("WaterWorksModel", "effectOrder", "[I", true)
  | 20 => ("WaterWorksModel", "effectKey", "[I", true)
  | 21 => ("WaterWorksModel", "effectLitres", "[I", true)
  | 22 => ("WaterWorksModel", "effectTime", "[I", true)
  | 23 => ("WaterWorksModel", "failures", "I", false)
  | 24 => ("WaterWorksModel", "kindOf", "[I", true)
  | 25 => ("WaterWorksModel", "failTime", "[I", true)
  | 26 => ("WaterWorksModel", "failGuard", "[I", true)
  | 27 => ("WaterWorksModel", "failStation", "[I", true)
  | 28 => ("WaterWorksModel", "cause", "[I", true)
  | 29 => ("WaterWorksModel", "suppressed", "[I", true)
  | 30 => ("WaterWorksModel", "guards", "I", false)
  | 31 => ("WaterWorksModel", "sort", "[I", true)
  | 32 => ("WaterWorksModel", "one", "[I", true)
  | 33 => ("WaterWorksModel", "two", "[I", true)
  | 34 => ("WaterWorksModel", "three", "[I", true)
  | 35 => ("WaterWorksModel", "names", "[I", true)
  | 36 => ("WaterWorksModel", "state", "[I", true)
  | 37 => ("WaterWorksModel", "counted", "[I", true)
  | 38 => ("WaterWorksModel", "until", "[I", true)
  | 39 => ("WaterWorksModel", "working", "[I", true)
  | 40 => ("WaterWorksModel", "waits", "[I", true)
  | 41 => ("WaterWorksModel", "refused", "[I", true)
  | 42 => ("WaterWorksModel", "tokens", "[I", true)
  | 43 => ("WaterWorksModel", "queue", "[I", true)
  | 44 => ("WaterWorksModel", "keptAnswer", "[I", true)
  | 45 => ("WaterWorksModel", "keptTime", "[I", true)
  | 46 => ("WaterWorksModel", "keptBy", "[Z", true)
  | 47 => ("WaterWorksModel", "towers", "I", false)
  | 48 => ("WaterWorksModel", "height", "[I", true)
  | 49 => ("WaterWorksModel", "tower", "[I", true)
  | 50 => ("WaterWorksModel", "orders", "I", false)
  | 51 => ("WaterWorksModel", "orderTower", "[I", true)
  | 52 => ("WaterWorksModel", "orderStation", "[I", true)
  | 53 => ("WaterWorksModel", "orderAct", "[I", true)
  | 54 => ("WaterWorksModel", "orderV", "[I", true)
  | 55 => ("WaterWorksModel", "orderKey", "[I", true)
  | 56 => ("WaterWorksModel", "orderBegan", "[I", true)
  | 57 => ("WaterWorksModel", "orderEnded", "[I", true)
  | 58 => ("WaterWorksModel", "orderHow", "[I", true)
  | 59 => ("WaterWorksModel", "orderValue", "[I", true)
  | 60 => ("WaterWorksModel", "ended", "I", false)
  | 61 => ("WaterWorksModel", "calls", "I", false)
  | 62 => ("WaterWorksModel", "callOrder", "[I", true)
  | 63 => ("WaterWorksModel", "depth", "[I", true)
  | 64 => ("WaterWorksModel", "parent", "[I", true)
  | 65 => ("WaterWorksModel", "guardOf", "[I", true)
  | 66 => ("WaterWorksModel", "stationOf", "[I", true)
  | 67 => ("WaterWorksModel", "began", "[I", true)
  | 68 => ("WaterWorksModel", "endedAt", "[I", true)
  | 69 => ("WaterWorksModel", "how", "[I", true)
  | 70 => ("WaterWorksModel", "value", "[I", true)
  | 71 => ("WaterWorksModel", "by", "[Z", true)
  | 72 => ("WaterWorksModel", "due", "[I", true)
  | 73 => ("WaterWorksModel", "inner", "[I", true)
  | 74 => ("WaterWorksModel", "joinedTo", "[I", true)
  | 75 => ("WaterWorksModel", "waiting", "[Z", true)
  | 76 => ("WaterWorksModel", "pauses", "[Z", true)
  | 77 => ("WaterWorksModel", "works", "[Z", true)
  | 78 => ("WaterWorksModel", "leads", "[Z", true)
  | 79 => ("WaterWorksModel", "trial", "[Z", true)
  | 80 => ("WaterWorksModel", "marked", "[Z", true)
  | 81 => ("WaterWorksModel", "taken", "[I", true)
  | 82 => ("WaterWorksModel", "takens", "I", false)
  | 83 => ("WaterWorksModel", "job", "[I", true)
  | 84 => ("WaterWorksModel", "jobA", "[I", true)
  | 85 => ("WaterWorksModel", "jobB", "[I", true)
  | 86 => ("WaterWorksModel", "jobC", "[I", true)
  | 87 => ("WaterWorksModel", "jobD", "[I", true)
  | 88 => ("WaterWorksModel", "jobs", "I", false)
  | 89 => ("WaterWorksModel", "plans", "I", false)
  | 90 => ("WaterWorksModel", "planTower", "[I", true)
  | 91 => ("WaterWorksModel", "planStation", "[I", true)
  | 92 => ("WaterWorksModel", "planAct", "[I", true)
  | 93 => ("WaterWorksModel", "planV", "[I", true)
  | 94 => ("WaterWorksModel", "every", "[I", true)
  | 95 => ("WaterWorksModel", "low", "[I", true)
  | 96 => ("WaterWorksModel", "high", "[I", true)
  | 97 => ("WaterWorksModel", "planAt", "[I", true)
  | 98 => ("WaterWorksModel", "planMade", "[I", true)
  | 99 => ("WaterWorksModel", "planLatest", "[I", true)
  | 100 => ("WaterWorksModel", "missed", "[I", true)
  | 101 => ("WaterWorksModel", "passed", "[I", true)
  | 102 => ("WaterWorksModel", "stopped", "[Z", true)
  | 103 => ("WaterWorksModel", "alarms", "I", false)
  | 104 => ("WaterWorksModel", "alarmSort", "[I", true)
  | 105 => ("WaterWorksModel", "alarmX", "[I", true)
  | 106 => ("WaterWorksModel", "alarmY", "[I", true)
  | 107 => ("WaterWorksModel", "rings", "[I", true)
  | 108 => ("WaterWorksModel", "rang", "[I", true)
  | _ => ("WaterWorksModel", "isOn", "[Z", true)
def tyX1 : Nat → FieldType := fun k => match k with
  | 0 => .int
  | 1 => .int
  | 2 => .array .int
  | 3 => .array .int
  | 4 => .array .int
  | 5 => .int
  | 6 => .array .int
  | 7 => .array .int
  | 8 => .array .int
  | 9 => .array .int
  | 10 => .array .int
  | 11 => .int
  | 12 => .array .int
  | 13 => .array .int
  | 14 => .array .int
  | 15 => .array .int
  | 16 => .array .int
  | 17 => .int
  | 18 => .array .int
  | 19 => .array .int
  | 20 => .array .int
  | 21 => .array .int
  | 22 => .array .int
  | 23 => .int
  | 24 => .array .int
  | 25 => .array .int
  | 26 => .array .int
  | 27 => .array .int
  | 28 => .array .int
  | 29 => .array .int
  | 30 => .int
  | 31 => .array .int
  | 32 => .array .int
  | 33 => .array .int
  | 34 => .array .int
  | 35 => .array .int
  | 36 => .array .int
  | 37 => .array .int
  | 38 => .array .int
  | 39 => .array .int
  | 40 => .array .int
  | 41 => .array .int
  | 42 => .array .int
  | 43 => .array .int
  | 44 => .array .int
  | 45 => .array .int
  | 46 => .array .boolean
  | 47 => .int
  | 48 => .array .int
  | 49 => .array .int
  | 50 => .int
  | 51 => .array .int
  | 52 => .array .int
  | 53 => .array .int
  | 54 => .array .int
  | 55 => .array .int
  | 56 => .array .int
  | 57 => .array .int
  | 58 => .array .int
  | 59 => .array .int
  | 60 => .int
  | 61 => .int
  | 62 => .array .int
  | 63 => .array .int
  | 64 => .array .int
  | 65 => .array .int
  | 66 => .array .int
  | 67 => .array .int
  | 68 => .array .int
  | 69 => .array .int
  | 70 => .array .int
  | 71 => .array .boolean
  | 72 => .array .int
  | 73 => .array .int
  | 74 => .array .int
  | 75 => .array .boolean
  | 76 => .array .boolean
  | 77 => .array .boolean
  | 78 => .array .boolean
  | 79 => .array .boolean
  | 80 => .array .boolean
  | 81 => .array .int
  | 82 => .int
  | 83 => .array .int
  | 84 => .array .int
  | 85 => .array .int
  | 86 => .array .int
  | 87 => .array .int
  | 88 => .int
  | 89 => .int
  | 90 => .array .int
  | 91 => .array .int
  | 92 => .array .int
  | 93 => .array .int
  | 94 => .array .int
  | 95 => .array .int
  | 96 => .array .int
  | 97 => .array .int
  | 98 => .array .int
  | 99 => .array .int
  | 100 => .array .int
  | 101 => .array .int
  | 102 => .array .boolean
  | 103 => .int
  | 104 => .array .int
  | 105 => .array .int
  | 106 => .array .int
  | 107 => .array .int
  | 108 => .array .int
  | _ => .array .boolean
abbrev wsX10 : List Cond := u_ws RX1 TX1 110
theorem nmX1 : ∀ a, a < 110 → ∀ b, b < 110 → a ≠ b → (TX1 a).2.1 ≠ (TX1 b).2.1 := by decide +kernel
theorem tyX1_ok : ∀ k, k < 110 → parseFieldDescriptor (TX1 k).2.2.1 = some (tyX1 k) := by decide +kernel
abbrev cX1_init : ByteArray := prog_26_method_1_code
def yX1_init : MethodName := ⟨RX1, "<init>", "()V"⟩
abbrev cX1_station : ByteArray := prog_26_method_4_code
def yX1_station : MethodName := ⟨RX1, "station", "(III)I"⟩
abbrev cX1_fault : ByteArray := prog_26_method_5_code
def yX1_fault : MethodName := ⟨RX1, "fault", "(IIIII)I"⟩
abbrev cX1_isStation : ByteArray := prog_26_method_2_code
def yX1_isStation : MethodName := ⟨RX1, "isStation", "(I)Z"⟩
abbrev cX1_isAct : ByteArray := prog_26_method_3_code
def yX1_isAct : MethodName := ⟨RX1, "isAct", "(I)Z"⟩
abbrev cX1_slow : ByteArray := prog_26_method_6_code
def yX1_slow : MethodName := ⟨RX1, "slow", "(IIIII)I"⟩
abbrev cX1_isOf : ByteArray := prog_26_method_9_code
def yX1_isOf : MethodName := ⟨RX1, "isOf", "(II)I"⟩
abbrev cX1_isUnder : ByteArray := prog_26_method_8_code
def yX1_isUnder : MethodName := ⟨RX1, "isUnder", "(II)Z"⟩
abbrev cX1_over : ByteArray := prog_26_method_7_code
def yX1_over : MethodName := ⟨RX1, "over", "(I)I"⟩
abbrev cX1_failure : ByteArray := prog_26_method_11_code
def yX1_failure : MethodName := ⟨RX1, "failure", "(II)I"⟩
abbrev cX1_guard : ByteArray := prog_26_method_15_code
def yX1_guard : MethodName := ⟨RX1, "guard", "(IIIII)I"⟩
abbrev cX1_isGood : ByteArray := prog_26_method_14_code
def yX1_isGood : MethodName := ⟨RX1, "isGood", "(IIII)Z"⟩
abbrev cX1_in : ByteArray := prog_26_method_13_code
def yX1_in : MethodName := ⟨RX1, "in", "(III)Z"⟩
abbrev cX1_on : ByteArray := prog_26_method_16_code
def yX1_on : MethodName := ⟨RX1, "on", "(I)I"⟩
abbrev cX1_tower : ByteArray := prog_26_method_17_code
def yX1_tower : MethodName := ⟨RX1, "tower", "()I"⟩
abbrev cX1_order : ByteArray := prog_26_method_46_code
def yX1_order : MethodName := ⟨RX1, "order", "(IIIII)I"⟩
abbrev cX1_isTower : ByteArray := prog_26_method_43_code
def yX1_isTower : MethodName := ⟨RX1, "isTower", "(I)Z"⟩
abbrev cX1_isAmount : ByteArray := prog_26_method_44_code
def yX1_isAmount : MethodName := ⟨RX1, "isAmount", "(II)Z"⟩
abbrev cX1_made : ByteArray := prog_26_method_45_code
def yX1_made : MethodName := ⟨RX1, "made", "(IIIII)I"⟩
abbrev cX1_add : ByteArray := prog_26_method_18_code
def yX1_add : MethodName := ⟨RX1, "add", "(IIIII)V"⟩
abbrev cX1_work : ByteArray := prog_26_method_19_code
def yX1_work : MethodName := ⟨RX1, "work", "()V"⟩
abbrev cX1_begins : ByteArray := prog_26_method_21_code
def yX1_begins : MethodName := ⟨RX1, "begins", "(IIII)V"⟩
abbrev cX1_guardAt : ByteArray := prog_26_method_20_code
def yX1_guardAt : MethodName := ⟨RX1, "guardAt", "(II)I"⟩
abbrev cX1_entered : ByteArray := prog_26_method_24_code
def yX1_entered : MethodName := ⟨RX1, "entered", "(II)V"⟩
abbrev cX1_goesIn : ByteArray := prog_26_method_23_code
def yX1_goesIn : MethodName := ⟨RX1, "goesIn", "(I)V"⟩
abbrev cX1_setToWork : ByteArray := prog_26_method_26_code
def yX1_setToWork : MethodName := ⟨RX1, "setToWork", "(II)V"⟩
abbrev cX1_isAlike : ByteArray := prog_26_method_25_code
def yX1_isAlike : MethodName := ⟨RX1, "isAlike", "(II)Z"⟩
abbrev cX1_tryEnd : ByteArray := prog_26_method_22_code
def yX1_tryEnd : MethodName := ⟨RX1, "tryEnd", "(II)I"⟩
abbrev cX1_ends : ByteArray := prog_26_method_28_code
def yX1_ends : MethodName := ⟨RX1, "ends", "(IIIZ)V"⟩
abbrev cX1_told : ByteArray := prog_26_method_32_code
def yX1_told : MethodName := ⟨RX1, "told", "(II)V"⟩
abbrev cX1_fuseTold : ByteArray := prog_26_method_33_code
def yX1_fuseTold : MethodName := ⟨RX1, "fuseTold", "(III)V"⟩
abbrev cX1_isNamed : ByteArray := prog_26_method_30_code
def yX1_isNamed : MethodName := ⟨RX1, "isNamed", "(II)Z"⟩
abbrev cX1_opens : ByteArray := prog_26_method_31_code
def yX1_opens : MethodName := ⟨RX1, "opens", "(II)V"⟩
abbrev cX1_alike : ByteArray := prog_26_method_29_code
def yX1_alike : MethodName := ⟨RX1, "alike", "(II)V"⟩
abbrev cX1_retryTold : ByteArray := prog_26_method_34_code
def yX1_retryTold : MethodName := ⟨RX1, "retryTold", "(III)V"⟩
abbrev cX1_hedgeTold : ByteArray := prog_26_method_36_code
def yX1_hedgeTold : MethodName := ⟨RX1, "hedgeTold", "(II)V"⟩
abbrev cX1_otherOf : ByteArray := prog_26_method_35_code
def yX1_otherOf : MethodName := ⟨RX1, "otherOf", "(II)I"⟩
abbrev cX1_takeBack : ByteArray := prog_26_method_40_code
def yX1_takeBack : MethodName := ⟨RX1, "takeBack", "(II)I"⟩
abbrev cX1_fallbackTold : ByteArray := prog_26_method_37_code
def yX1_fallbackTold : MethodName := ⟨RX1, "fallbackTold", "(III)V"⟩
abbrev cX1_fails : ByteArray := prog_26_method_10_code
def yX1_fails : MethodName := ⟨RX1, "fails", "(III)I"⟩
abbrev cX1_failsNow : ByteArray := prog_26_method_27_code
def yX1_failsNow : MethodName := ⟨RX1, "failsNow", "(II)V"⟩
abbrev cX1_freeJoined : ByteArray := prog_26_method_38_code
def yX1_freeJoined : MethodName := ⟨RX1, "freeJoined", "(II)V"⟩
abbrev cX1_takenBack : ByteArray := prog_26_method_41_code
def yX1_takenBack : MethodName := ⟨RX1, "takenBack", "(II)V"⟩
abbrev cX1_gone : ByteArray := prog_26_method_39_code
def yX1_gone : MethodName := ⟨RX1, "gone", "(II)V"⟩
abbrev cX1_cancel : ByteArray := prog_26_method_47_code
def yX1_cancel : MethodName := ⟨RX1, "cancel", "(I)I"⟩
abbrev cX1_plan : ByteArray := prog_26_method_48_code
def yX1_plan : MethodName := ⟨RX1, "plan", "(IIIIIII)I"⟩
abbrev cX1_stop : ByteArray := prog_26_method_49_code
def yX1_stop : MethodName := ⟨RX1, "stop", "(I)I"⟩
abbrev cX1_planned : ByteArray := prog_26_method_50_code
def yX1_planned : MethodName := ⟨RX1, "planned", "(II)I"⟩
abbrev cX1_alarm : ByteArray := prog_26_method_52_code
def yX1_alarm : MethodName := ⟨RX1, "alarm", "(III)I"⟩
abbrev cX1_isGuard : ByteArray := prog_26_method_12_code
def yX1_isGuard : MethodName := ⟨RX1, "isGuard", "(II)Z"⟩
abbrev cX1_alarmed : ByteArray := prog_26_method_53_code
def yX1_alarmed : MethodName := ⟨RX1, "alarmed", "(II)I"⟩
abbrev cX1_second : ByteArray := prog_26_method_55_code
def yX1_second : MethodName := ⟨RX1, "second", "(I)I"⟩
abbrev cX1_tick : ByteArray := prog_26_method_56_code
def yX1_tick : MethodName := ⟨RX1, "tick", "()V"⟩
abbrev cX1_tryEnds : ByteArray := prog_26_method_42_code
def yX1_tryEnds : MethodName := ⟨RX1, "tryEnds", "(I)V"⟩
abbrev cX1_late : ByteArray := prog_26_method_57_code
def yX1_late : MethodName := ⟨RX1, "late", "(I)V"⟩
abbrev cX1_planDue : ByteArray := prog_26_method_51_code
def yX1_planDue : MethodName := ⟨RX1, "planDue", "(I)V"⟩
abbrev cX1_isSo : ByteArray := prog_26_method_54_code
def yX1_isSo : MethodName := ⟨RX1, "isSo", "(I)Z"⟩
abbrev cX1_now : ByteArray := prog_26_method_58_code
def yX1_now : MethodName := ⟨RX1, "now", "()I"⟩
abbrev cX1_outcome : ByteArray := prog_26_method_59_code
def yX1_outcome : MethodName := ⟨RX1, "outcome", "(I)I"⟩
abbrev cX1_of : ByteArray := prog_26_method_60_code
def yX1_of : MethodName := ⟨RX1, "of", "(II)I"⟩
abbrev cX1_call : ByteArray := prog_26_method_61_code
def yX1_call : MethodName := ⟨RX1, "call", "(II)I"⟩
abbrev cX1_fuse : ByteArray := prog_26_method_62_code
def yX1_fuse : MethodName := ⟨RX1, "fuse", "(II)I"⟩
abbrev cX1_bulkhead : ByteArray := prog_26_method_63_code
def yX1_bulkhead : MethodName := ⟨RX1, "bulkhead", "(II)I"⟩
abbrev cX1_waiting : ByteArray := prog_26_method_64_code
def yX1_waiting : MethodName := ⟨RX1, "waiting", "(II)I"⟩
abbrev cX1_tokens : ByteArray := prog_26_method_65_code
def yX1_tokens : MethodName := ⟨RX1, "tokens", "(I)I"⟩
abbrev cX1_kept : ByteArray := prog_26_method_66_code
def yX1_kept : MethodName := ⟨RX1, "kept", "(III)I"⟩
abbrev cX1_joined : ByteArray := prog_26_method_67_code
def yX1_joined : MethodName := ⟨RX1, "joined", "(II)I"⟩
abbrev cX1_level : ByteArray := prog_26_method_68_code
def yX1_level : MethodName := ⟨RX1, "level", "(I)I"⟩
abbrev cX1_effect : ByteArray := prog_26_method_69_code
def yX1_effect : MethodName := ⟨RX1, "effect", "(II)I"⟩
abbrev cX1_count : ByteArray := prog_26_method_70_code
def yX1_count : MethodName := ⟨RX1, "count", "(I)I"⟩
theorem q73 : (Jvm.Cond.initialized "WaterWorksModel") ∈ lw_all := lw_g (lw_at lw_m1 5 rfl) rfl
theorem q280 : (Jvm.Cond.selects "WaterWorksModel" ({ cls := "java/lang/Object", name := "getClass", desc := "()Ljava/lang/Class;" } : Jvm.MethodName) ({ cls := "java/lang/Object", name := "getClass", desc := "()Ljava/lang/Class;" } : Jvm.MethodName)) ∈ lw_all := lw_g (lw_at lw_m1 212 rfl) rfl
theorem q1008 : (Jvm.Cond.selects "WaterWorksModel" ({ cls := "java/lang/Object", name := "equals", desc := "(Ljava/lang/Object;)Z" } : Jvm.MethodName) ({ cls := "java/lang/Object", name := "equals", desc := "(Ljava/lang/Object;)Z" } : Jvm.MethodName)) ∈ lw_all := lw_g (lw_at lw_m4 220 rfl) rfl
theorem q1507 : (Jvm.Cond.instantiable "WaterWorksModel" (110 : Nat)) ∈ lw_all := lw_g (lw_at lw_m6 239 rfl) rfl
theorem q1509 : (Jvm.Cond.instanceMethod ({ cls := "WaterWorksModel", name := "<init>", desc := "()V" } : Jvm.MethodName)) ∈ lw_all := lw_g (lw_at lw_m7 1 rfl) rfl
theorem q1510 : (Jvm.Cond.code ({ cls := "WaterWorksModel", name := "<init>", desc := "()V" } : Jvm.MethodName) prog_26_method_1_code (1 : Nat) (Option.none : Option Jvm.ClassFile.FieldType)) ∈ lw_all := lw_g (lw_at lw_m7 2 rfl) rfl
theorem q1511 : (Jvm.Cond.methodLink "WaterWorksModel" (1 : Nat) ({ cls := "java/lang/Object", name := "<init>", desc := "()V" } : Jvm.MethodName)) ∈ lw_all := lw_g (lw_at lw_m7 3 rfl) rfl
theorem q1512 : (Jvm.Cond.fieldLink "WaterWorksModel" (7 : Nat) "WaterWorksModel" "time" "I") ∈ lw_all := lw_g (lw_at lw_m7 4 rfl) rfl
theorem q1513 : (Jvm.Cond.fieldLink "WaterWorksModel" (13 : Nat) "WaterWorksModel" "stations" "I") ∈ lw_all := lw_g (lw_at lw_m7 5 rfl) rfl
theorem q1514 : (Jvm.Cond.fieldLink "WaterWorksModel" (16 : Nat) "WaterWorksModel" "levels" "[I") ∈ lw_all := lw_g (lw_at lw_m7 6 rfl) rfl
theorem q1515 : (Jvm.Cond.fieldLink "WaterWorksModel" (20 : Nat) "WaterWorksModel" "capacity" "[I") ∈ lw_all := lw_g (lw_at lw_m7 7 rfl) rfl
theorem q1516 : (Jvm.Cond.fieldLink "WaterWorksModel" (23 : Nat) "WaterWorksModel" "delay" "[I") ∈ lw_all := lw_g (lw_at lw_m7 8 rfl) rfl
theorem q1517 : (Jvm.Cond.fieldLink "WaterWorksModel" (26 : Nat) "WaterWorksModel" "faults" "I") ∈ lw_all := lw_g (lw_at lw_m7 9 rfl) rfl
theorem q1518 : (Jvm.Cond.fieldLink "WaterWorksModel" (29 : Nat) "WaterWorksModel" "faultAt" "[I") ∈ lw_all := lw_g (lw_at lw_m7 10 rfl) rfl
theorem q1519 : (Jvm.Cond.fieldLink "WaterWorksModel" (32 : Nat) "WaterWorksModel" "faultAct" "[I") ∈ lw_all := lw_g (lw_at lw_m7 11 rfl) rfl
theorem q1520 : (Jvm.Cond.fieldLink "WaterWorksModel" (35 : Nat) "WaterWorksModel" "faultFrom" "[I") ∈ lw_all := lw_g (lw_at lw_m7 12 rfl) rfl
theorem q1521 : (Jvm.Cond.fieldLink "WaterWorksModel" (38 : Nat) "WaterWorksModel" "faultTo" "[I") ∈ lw_all := lw_g (lw_at lw_m7 13 rfl) rfl
theorem q1522 : (Jvm.Cond.fieldLink "WaterWorksModel" (41 : Nat) "WaterWorksModel" "faultKind" "[I") ∈ lw_all := lw_g (lw_at lw_m7 14 rfl) rfl
theorem q1523 : (Jvm.Cond.fieldLink "WaterWorksModel" (44 : Nat) "WaterWorksModel" "slows" "I") ∈ lw_all := lw_g (lw_at lw_m7 15 rfl) rfl
theorem q1524 : (Jvm.Cond.fieldLink "WaterWorksModel" (47 : Nat) "WaterWorksModel" "slowAt" "[I") ∈ lw_all := lw_g (lw_at lw_m7 16 rfl) rfl
theorem q1525 : (Jvm.Cond.fieldLink "WaterWorksModel" (50 : Nat) "WaterWorksModel" "slowAct" "[I") ∈ lw_all := lw_g (lw_at lw_m7 17 rfl) rfl
theorem q1526 : (Jvm.Cond.fieldLink "WaterWorksModel" (53 : Nat) "WaterWorksModel" "slowFrom" "[I") ∈ lw_all := lw_g (lw_at lw_m7 18 rfl) rfl
theorem q1527 : (Jvm.Cond.fieldLink "WaterWorksModel" (56 : Nat) "WaterWorksModel" "slowTo" "[I") ∈ lw_all := lw_g (lw_at lw_m7 19 rfl) rfl
theorem q1528 : (Jvm.Cond.fieldLink "WaterWorksModel" (59 : Nat) "WaterWorksModel" "slowBy" "[I") ∈ lw_all := lw_g (lw_at lw_m7 20 rfl) rfl
theorem q1529 : (Jvm.Cond.fieldLink "WaterWorksModel" (62 : Nat) "WaterWorksModel" "effects" "I") ∈ lw_all := lw_g (lw_at lw_m7 21 rfl) rfl
theorem q1530 : (Jvm.Cond.fieldLink "WaterWorksModel" (65 : Nat) "WaterWorksModel" "effectAt" "[I") ∈ lw_all := lw_g (lw_at lw_m7 22 rfl) rfl
theorem q1531 : (Jvm.Cond.fieldLink "WaterWorksModel" (68 : Nat) "WaterWorksModel" "effectOrder" "[I") ∈ lw_all := lw_g (lw_at lw_m7 23 rfl) rfl
theorem q1532 : (Jvm.Cond.fieldLink "WaterWorksModel" (71 : Nat) "WaterWorksModel" "effectKey" "[I") ∈ lw_all := lw_g (lw_at lw_m7 24 rfl) rfl
theorem q1533 : (Jvm.Cond.fieldLink "WaterWorksModel" (74 : Nat) "WaterWorksModel" "effectLitres" "[I") ∈ lw_all := lw_g (lw_at lw_m7 25 rfl) rfl
theorem q1534 : (Jvm.Cond.fieldLink "WaterWorksModel" (77 : Nat) "WaterWorksModel" "effectTime" "[I") ∈ lw_all := lw_g (lw_at lw_m7 26 rfl) rfl
theorem q1535 : (Jvm.Cond.fieldLink "WaterWorksModel" (80 : Nat) "WaterWorksModel" "failures" "I") ∈ lw_all := lw_g (lw_at lw_m7 27 rfl) rfl
theorem q1536 : (Jvm.Cond.fieldLink "WaterWorksModel" (83 : Nat) "WaterWorksModel" "kindOf" "[I") ∈ lw_all := lw_g (lw_at lw_m7 28 rfl) rfl
theorem q1537 : (Jvm.Cond.fieldLink "WaterWorksModel" (86 : Nat) "WaterWorksModel" "failTime" "[I") ∈ lw_all := lw_g (lw_at lw_m7 29 rfl) rfl
theorem q1538 : (Jvm.Cond.fieldLink "WaterWorksModel" (89 : Nat) "WaterWorksModel" "failGuard" "[I") ∈ lw_all := lw_g (lw_at lw_m7 30 rfl) rfl
theorem q1539 : (Jvm.Cond.fieldLink "WaterWorksModel" (92 : Nat) "WaterWorksModel" "failStation" "[I") ∈ lw_all := lw_g (lw_at lw_m7 31 rfl) rfl
theorem q1540 : (Jvm.Cond.fieldLink "WaterWorksModel" (95 : Nat) "WaterWorksModel" "cause" "[I") ∈ lw_all := lw_g (lw_at lw_m7 32 rfl) rfl
theorem q1541 : (Jvm.Cond.fieldLink "WaterWorksModel" (98 : Nat) "WaterWorksModel" "suppressed" "[I") ∈ lw_all := lw_g (lw_at lw_m7 33 rfl) rfl
theorem q1542 : (Jvm.Cond.fieldLink "WaterWorksModel" (101 : Nat) "WaterWorksModel" "guards" "I") ∈ lw_all := lw_g (lw_at lw_m7 34 rfl) rfl
theorem q1543 : (Jvm.Cond.fieldLink "WaterWorksModel" (104 : Nat) "WaterWorksModel" "sort" "[I") ∈ lw_all := lw_g (lw_at lw_m7 35 rfl) rfl
theorem q1544 : (Jvm.Cond.fieldLink "WaterWorksModel" (107 : Nat) "WaterWorksModel" "one" "[I") ∈ lw_all := lw_g (lw_at lw_m7 36 rfl) rfl
theorem q1545 : (Jvm.Cond.fieldLink "WaterWorksModel" (110 : Nat) "WaterWorksModel" "two" "[I") ∈ lw_all := lw_g (lw_at lw_m7 37 rfl) rfl
theorem q1546 : (Jvm.Cond.fieldLink "WaterWorksModel" (113 : Nat) "WaterWorksModel" "three" "[I") ∈ lw_all := lw_g (lw_at lw_m7 38 rfl) rfl
theorem q1547 : (Jvm.Cond.fieldLink "WaterWorksModel" (116 : Nat) "WaterWorksModel" "names" "[I") ∈ lw_all := lw_g (lw_at lw_m7 39 rfl) rfl
theorem q1548 : (Jvm.Cond.fieldLink "WaterWorksModel" (119 : Nat) "WaterWorksModel" "state" "[I") ∈ lw_all := lw_g (lw_at lw_m7 40 rfl) rfl
theorem q1549 : (Jvm.Cond.fieldLink "WaterWorksModel" (122 : Nat) "WaterWorksModel" "counted" "[I") ∈ lw_all := lw_g (lw_at lw_m7 41 rfl) rfl
theorem q1550 : (Jvm.Cond.fieldLink "WaterWorksModel" (125 : Nat) "WaterWorksModel" "until" "[I") ∈ lw_all := lw_g (lw_at lw_m7 42 rfl) rfl
theorem q1551 : (Jvm.Cond.fieldLink "WaterWorksModel" (128 : Nat) "WaterWorksModel" "working" "[I") ∈ lw_all := lw_g (lw_at lw_m7 43 rfl) rfl
theorem q1552 : (Jvm.Cond.fieldLink "WaterWorksModel" (131 : Nat) "WaterWorksModel" "waits" "[I") ∈ lw_all := lw_g (lw_at lw_m7 44 rfl) rfl
theorem q1553 : (Jvm.Cond.fieldLink "WaterWorksModel" (134 : Nat) "WaterWorksModel" "refused" "[I") ∈ lw_all := lw_g (lw_at lw_m7 45 rfl) rfl
theorem q1554 : (Jvm.Cond.fieldLink "WaterWorksModel" (137 : Nat) "WaterWorksModel" "tokens" "[I") ∈ lw_all := lw_g (lw_at lw_m7 46 rfl) rfl
theorem q1555 : (Jvm.Cond.fieldLink "WaterWorksModel" (140 : Nat) "WaterWorksModel" "queue" "[I") ∈ lw_all := lw_g (lw_at lw_m7 47 rfl) rfl
theorem q1556 : (Jvm.Cond.fieldLink "WaterWorksModel" (143 : Nat) "WaterWorksModel" "keptAnswer" "[I") ∈ lw_all := lw_g (lw_at lw_m7 48 rfl) rfl
theorem q1557 : (Jvm.Cond.fieldLink "WaterWorksModel" (146 : Nat) "WaterWorksModel" "keptTime" "[I") ∈ lw_all := lw_g (lw_at lw_m7 49 rfl) rfl
theorem q1558 : (Jvm.Cond.fieldLink "WaterWorksModel" (149 : Nat) "WaterWorksModel" "keptBy" "[Z") ∈ lw_all := lw_g (lw_at lw_m7 50 rfl) rfl
theorem q1559 : (Jvm.Cond.fieldLink "WaterWorksModel" (153 : Nat) "WaterWorksModel" "towers" "I") ∈ lw_all := lw_g (lw_at lw_m7 51 rfl) rfl
theorem q1560 : (Jvm.Cond.fieldLink "WaterWorksModel" (156 : Nat) "WaterWorksModel" "height" "[I") ∈ lw_all := lw_g (lw_at lw_m7 52 rfl) rfl
theorem q1561 : (Jvm.Cond.fieldLink "WaterWorksModel" (159 : Nat) "WaterWorksModel" "tower" "[I") ∈ lw_all := lw_g (lw_at lw_m7 53 rfl) rfl
theorem q1562 : (Jvm.Cond.fieldLink "WaterWorksModel" (162 : Nat) "WaterWorksModel" "orders" "I") ∈ lw_all := lw_g (lw_at lw_m7 54 rfl) rfl
theorem q1563 : (Jvm.Cond.fieldLink "WaterWorksModel" (165 : Nat) "WaterWorksModel" "orderTower" "[I") ∈ lw_all := lw_g (lw_at lw_m7 55 rfl) rfl
theorem q1564 : (Jvm.Cond.fieldLink "WaterWorksModel" (168 : Nat) "WaterWorksModel" "orderStation" "[I") ∈ lw_all := lw_g (lw_at lw_m7 56 rfl) rfl
theorem q1565 : (Jvm.Cond.fieldLink "WaterWorksModel" (171 : Nat) "WaterWorksModel" "orderAct" "[I") ∈ lw_all := lw_g (lw_at lw_m7 57 rfl) rfl
theorem q1566 : (Jvm.Cond.fieldLink "WaterWorksModel" (174 : Nat) "WaterWorksModel" "orderV" "[I") ∈ lw_all := lw_g (lw_at lw_m7 58 rfl) rfl
theorem q1567 : (Jvm.Cond.fieldLink "WaterWorksModel" (177 : Nat) "WaterWorksModel" "orderKey" "[I") ∈ lw_all := lw_g (lw_at lw_m7 59 rfl) rfl
theorem q1568 : (Jvm.Cond.fieldLink "WaterWorksModel" (180 : Nat) "WaterWorksModel" "orderBegan" "[I") ∈ lw_all := lw_g (lw_at lw_m7 60 rfl) rfl
theorem q1569 : (Jvm.Cond.fieldLink "WaterWorksModel" (183 : Nat) "WaterWorksModel" "orderEnded" "[I") ∈ lw_all := lw_g (lw_at lw_m7 61 rfl) rfl
theorem q1570 : (Jvm.Cond.fieldLink "WaterWorksModel" (186 : Nat) "WaterWorksModel" "orderHow" "[I") ∈ lw_all := lw_g (lw_at lw_m7 62 rfl) rfl
theorem q1571 : (Jvm.Cond.fieldLink "WaterWorksModel" (189 : Nat) "WaterWorksModel" "orderValue" "[I") ∈ lw_all := lw_g (lw_at lw_m7 63 rfl) rfl
theorem q1572 : (Jvm.Cond.fieldLink "WaterWorksModel" (192 : Nat) "WaterWorksModel" "ended" "I") ∈ lw_all := lw_g (lw_at lw_m7 64 rfl) rfl
theorem q1573 : (Jvm.Cond.fieldLink "WaterWorksModel" (195 : Nat) "WaterWorksModel" "calls" "I") ∈ lw_all := lw_g (lw_at lw_m7 65 rfl) rfl
theorem q1574 : (Jvm.Cond.fieldLink "WaterWorksModel" (198 : Nat) "WaterWorksModel" "callOrder" "[I") ∈ lw_all := lw_g (lw_at lw_m7 66 rfl) rfl
theorem q1575 : (Jvm.Cond.fieldLink "WaterWorksModel" (201 : Nat) "WaterWorksModel" "depth" "[I") ∈ lw_all := lw_g (lw_at lw_m7 67 rfl) rfl
theorem q1576 : (Jvm.Cond.fieldLink "WaterWorksModel" (204 : Nat) "WaterWorksModel" "parent" "[I") ∈ lw_all := lw_g (lw_at lw_m7 68 rfl) rfl
theorem q1577 : (Jvm.Cond.fieldLink "WaterWorksModel" (207 : Nat) "WaterWorksModel" "guardOf" "[I") ∈ lw_all := lw_g (lw_at lw_m7 69 rfl) rfl
theorem q1578 : (Jvm.Cond.fieldLink "WaterWorksModel" (210 : Nat) "WaterWorksModel" "stationOf" "[I") ∈ lw_all := lw_g (lw_at lw_m7 70 rfl) rfl
theorem q1579 : (Jvm.Cond.fieldLink "WaterWorksModel" (213 : Nat) "WaterWorksModel" "began" "[I") ∈ lw_all := lw_g (lw_at lw_m7 71 rfl) rfl
theorem q1580 : (Jvm.Cond.fieldLink "WaterWorksModel" (216 : Nat) "WaterWorksModel" "endedAt" "[I") ∈ lw_all := lw_g (lw_at lw_m7 72 rfl) rfl
theorem q1581 : (Jvm.Cond.fieldLink "WaterWorksModel" (219 : Nat) "WaterWorksModel" "how" "[I") ∈ lw_all := lw_g (lw_at lw_m7 73 rfl) rfl
theorem q1582 : (Jvm.Cond.fieldLink "WaterWorksModel" (222 : Nat) "WaterWorksModel" "value" "[I") ∈ lw_all := lw_g (lw_at lw_m7 74 rfl) rfl
theorem q1583 : (Jvm.Cond.fieldLink "WaterWorksModel" (225 : Nat) "WaterWorksModel" "by" "[Z") ∈ lw_all := lw_g (lw_at lw_m7 75 rfl) rfl
theorem q1584 : (Jvm.Cond.fieldLink "WaterWorksModel" (228 : Nat) "WaterWorksModel" "due" "[I") ∈ lw_all := lw_g (lw_at lw_m7 76 rfl) rfl
theorem q1585 : (Jvm.Cond.fieldLink "WaterWorksModel" (231 : Nat) "WaterWorksModel" "inner" "[I") ∈ lw_all := lw_g (lw_at lw_m7 77 rfl) rfl
theorem q1586 : (Jvm.Cond.fieldLink "WaterWorksModel" (234 : Nat) "WaterWorksModel" "joinedTo" "[I") ∈ lw_all := lw_g (lw_at lw_m7 78 rfl) rfl
theorem q1587 : (Jvm.Cond.fieldLink "WaterWorksModel" (237 : Nat) "WaterWorksModel" "waiting" "[Z") ∈ lw_all := lw_g (lw_at lw_m7 79 rfl) rfl
theorem q1588 : (Jvm.Cond.fieldLink "WaterWorksModel" (240 : Nat) "WaterWorksModel" "pauses" "[Z") ∈ lw_all := lw_g (lw_at lw_m7 80 rfl) rfl
theorem q1589 : (Jvm.Cond.fieldLink "WaterWorksModel" (243 : Nat) "WaterWorksModel" "works" "[Z") ∈ lw_all := lw_g (lw_at lw_m7 81 rfl) rfl
theorem q1590 : (Jvm.Cond.fieldLink "WaterWorksModel" (246 : Nat) "WaterWorksModel" "leads" "[Z") ∈ lw_all := lw_g (lw_at lw_m7 82 rfl) rfl
theorem q1591 : (Jvm.Cond.fieldLink "WaterWorksModel" (249 : Nat) "WaterWorksModel" "trial" "[Z") ∈ lw_all := lw_g (lw_at lw_m7 83 rfl) rfl
theorem q1592 : (Jvm.Cond.fieldLink "WaterWorksModel" (252 : Nat) "WaterWorksModel" "marked" "[Z") ∈ lw_all := lw_g (lw_at lw_m7 84 rfl) rfl
theorem q1593 : (Jvm.Cond.fieldLink "WaterWorksModel" (255 : Nat) "WaterWorksModel" "taken" "[I") ∈ lw_all := lw_g (lw_at lw_m7 85 rfl) rfl
theorem q1594 : (Jvm.Cond.fieldLink "WaterWorksModel" (258 : Nat) "WaterWorksModel" "takens" "I") ∈ lw_all := lw_g (lw_at lw_m7 86 rfl) rfl
theorem q1595 : (Jvm.Cond.fieldLink "WaterWorksModel" (261 : Nat) "WaterWorksModel" "job" "[I") ∈ lw_all := lw_g (lw_at lw_m7 87 rfl) rfl
theorem q1596 : (Jvm.Cond.fieldLink "WaterWorksModel" (264 : Nat) "WaterWorksModel" "jobA" "[I") ∈ lw_all := lw_g (lw_at lw_m7 88 rfl) rfl
theorem q1597 : (Jvm.Cond.fieldLink "WaterWorksModel" (267 : Nat) "WaterWorksModel" "jobB" "[I") ∈ lw_all := lw_g (lw_at lw_m7 89 rfl) rfl
theorem q1598 : (Jvm.Cond.fieldLink "WaterWorksModel" (270 : Nat) "WaterWorksModel" "jobC" "[I") ∈ lw_all := lw_g (lw_at lw_m7 90 rfl) rfl
theorem q1599 : (Jvm.Cond.fieldLink "WaterWorksModel" (273 : Nat) "WaterWorksModel" "jobD" "[I") ∈ lw_all := lw_g (lw_at lw_m7 91 rfl) rfl
theorem q1600 : (Jvm.Cond.fieldLink "WaterWorksModel" (276 : Nat) "WaterWorksModel" "jobs" "I") ∈ lw_all := lw_g (lw_at lw_m7 92 rfl) rfl
theorem q1601 : (Jvm.Cond.fieldLink "WaterWorksModel" (279 : Nat) "WaterWorksModel" "plans" "I") ∈ lw_all := lw_g (lw_at lw_m7 93 rfl) rfl
theorem q1602 : (Jvm.Cond.fieldLink "WaterWorksModel" (282 : Nat) "WaterWorksModel" "planTower" "[I") ∈ lw_all := lw_g (lw_at lw_m7 94 rfl) rfl
theorem q1603 : (Jvm.Cond.fieldLink "WaterWorksModel" (285 : Nat) "WaterWorksModel" "planStation" "[I") ∈ lw_all := lw_g (lw_at lw_m7 95 rfl) rfl
theorem q1604 : (Jvm.Cond.fieldLink "WaterWorksModel" (288 : Nat) "WaterWorksModel" "planAct" "[I") ∈ lw_all := lw_g (lw_at lw_m7 96 rfl) rfl
theorem q1605 : (Jvm.Cond.fieldLink "WaterWorksModel" (291 : Nat) "WaterWorksModel" "planV" "[I") ∈ lw_all := lw_g (lw_at lw_m7 97 rfl) rfl
theorem q1606 : (Jvm.Cond.fieldLink "WaterWorksModel" (294 : Nat) "WaterWorksModel" "every" "[I") ∈ lw_all := lw_g (lw_at lw_m7 98 rfl) rfl
theorem q1607 : (Jvm.Cond.fieldLink "WaterWorksModel" (297 : Nat) "WaterWorksModel" "low" "[I") ∈ lw_all := lw_g (lw_at lw_m7 99 rfl) rfl
theorem q1608 : (Jvm.Cond.fieldLink "WaterWorksModel" (300 : Nat) "WaterWorksModel" "high" "[I") ∈ lw_all := lw_g (lw_at lw_m7 100 rfl) rfl
theorem q1609 : (Jvm.Cond.fieldLink "WaterWorksModel" (303 : Nat) "WaterWorksModel" "planAt" "[I") ∈ lw_all := lw_g (lw_at lw_m7 101 rfl) rfl
theorem q1610 : (Jvm.Cond.fieldLink "WaterWorksModel" (306 : Nat) "WaterWorksModel" "planMade" "[I") ∈ lw_all := lw_g (lw_at lw_m7 102 rfl) rfl
theorem q1611 : (Jvm.Cond.fieldLink "WaterWorksModel" (309 : Nat) "WaterWorksModel" "planLatest" "[I") ∈ lw_all := lw_g (lw_at lw_m7 103 rfl) rfl
theorem q1612 : (Jvm.Cond.fieldLink "WaterWorksModel" (312 : Nat) "WaterWorksModel" "missed" "[I") ∈ lw_all := lw_g (lw_at lw_m7 104 rfl) rfl
theorem q1613 : (Jvm.Cond.fieldLink "WaterWorksModel" (315 : Nat) "WaterWorksModel" "passed" "[I") ∈ lw_all := lw_g (lw_at lw_m7 105 rfl) rfl
theorem q1614 : (Jvm.Cond.fieldLink "WaterWorksModel" (318 : Nat) "WaterWorksModel" "stopped" "[Z") ∈ lw_all := lw_g (lw_at lw_m7 106 rfl) rfl
theorem q1615 : (Jvm.Cond.fieldLink "WaterWorksModel" (321 : Nat) "WaterWorksModel" "alarms" "I") ∈ lw_all := lw_g (lw_at lw_m7 107 rfl) rfl
theorem q1616 : (Jvm.Cond.fieldLink "WaterWorksModel" (324 : Nat) "WaterWorksModel" "alarmSort" "[I") ∈ lw_all := lw_g (lw_at lw_m7 108 rfl) rfl
theorem q1617 : (Jvm.Cond.fieldLink "WaterWorksModel" (327 : Nat) "WaterWorksModel" "alarmX" "[I") ∈ lw_all := lw_g (lw_at lw_m7 109 rfl) rfl
theorem q1618 : (Jvm.Cond.fieldLink "WaterWorksModel" (330 : Nat) "WaterWorksModel" "alarmY" "[I") ∈ lw_all := lw_g (lw_at lw_m7 110 rfl) rfl
theorem q1619 : (Jvm.Cond.fieldLink "WaterWorksModel" (333 : Nat) "WaterWorksModel" "rings" "[I") ∈ lw_all := lw_g (lw_at lw_m7 111 rfl) rfl
theorem q1620 : (Jvm.Cond.fieldLink "WaterWorksModel" (336 : Nat) "WaterWorksModel" "rang" "[I") ∈ lw_all := lw_g (lw_at lw_m7 112 rfl) rfl
theorem q1621 : (Jvm.Cond.fieldLink "WaterWorksModel" (339 : Nat) "WaterWorksModel" "isOn" "[Z") ∈ lw_all := lw_g (lw_at lw_m7 113 rfl) rfl
theorem q1622 : (Jvm.Cond.lays "WaterWorksModel" "WaterWorksModel" "time" "I") ∈ lw_all := lw_g (lw_at lw_m7 114 rfl) rfl
theorem q1623 : (Jvm.Cond.soleField "WaterWorksModel" "time") ∈ lw_all := lw_g (lw_at lw_m7 115 rfl) rfl
theorem q1624 : (Jvm.Cond.lays "WaterWorksModel" "WaterWorksModel" "stations" "I") ∈ lw_all := lw_g (lw_at lw_m7 116 rfl) rfl
theorem q1625 : (Jvm.Cond.soleField "WaterWorksModel" "stations") ∈ lw_all := lw_g (lw_at lw_m7 117 rfl) rfl
theorem q1626 : (Jvm.Cond.laysFinal "WaterWorksModel" "WaterWorksModel" "levels" "[I") ∈ lw_all := lw_g (lw_at lw_m7 118 rfl) rfl
theorem q1627 : (Jvm.Cond.soleField "WaterWorksModel" "levels") ∈ lw_all := lw_g (lw_at lw_m7 119 rfl) rfl
theorem q1628 : (Jvm.Cond.laysFinal "WaterWorksModel" "WaterWorksModel" "capacity" "[I") ∈ lw_all := lw_g (lw_at lw_m7 120 rfl) rfl
theorem q1629 : (Jvm.Cond.soleField "WaterWorksModel" "capacity") ∈ lw_all := lw_g (lw_at lw_m7 121 rfl) rfl
theorem q1630 : (Jvm.Cond.laysFinal "WaterWorksModel" "WaterWorksModel" "delay" "[I") ∈ lw_all := lw_g (lw_at lw_m7 122 rfl) rfl
theorem q1631 : (Jvm.Cond.soleField "WaterWorksModel" "delay") ∈ lw_all := lw_g (lw_at lw_m7 123 rfl) rfl
theorem q1632 : (Jvm.Cond.lays "WaterWorksModel" "WaterWorksModel" "faults" "I") ∈ lw_all := lw_g (lw_at lw_m7 124 rfl) rfl
theorem q1633 : (Jvm.Cond.soleField "WaterWorksModel" "faults") ∈ lw_all := lw_g (lw_at lw_m7 125 rfl) rfl
theorem q1634 : (Jvm.Cond.laysFinal "WaterWorksModel" "WaterWorksModel" "faultAt" "[I") ∈ lw_all := lw_g (lw_at lw_m7 126 rfl) rfl
theorem q1635 : (Jvm.Cond.soleField "WaterWorksModel" "faultAt") ∈ lw_all := lw_g (lw_at lw_m7 127 rfl) rfl
theorem q1636 : (Jvm.Cond.laysFinal "WaterWorksModel" "WaterWorksModel" "faultAct" "[I") ∈ lw_all := lw_g (lw_at lw_m7 128 rfl) rfl
theorem q1637 : (Jvm.Cond.soleField "WaterWorksModel" "faultAct") ∈ lw_all := lw_g (lw_at lw_m7 129 rfl) rfl
theorem q1638 : (Jvm.Cond.laysFinal "WaterWorksModel" "WaterWorksModel" "faultFrom" "[I") ∈ lw_all := lw_g (lw_at lw_m7 130 rfl) rfl
theorem q1639 : (Jvm.Cond.soleField "WaterWorksModel" "faultFrom") ∈ lw_all := lw_g (lw_at lw_m7 131 rfl) rfl
theorem q1640 : (Jvm.Cond.laysFinal "WaterWorksModel" "WaterWorksModel" "faultTo" "[I") ∈ lw_all := lw_g (lw_at lw_m7 132 rfl) rfl
theorem q1641 : (Jvm.Cond.soleField "WaterWorksModel" "faultTo") ∈ lw_all := lw_g (lw_at lw_m7 133 rfl) rfl
theorem q1642 : (Jvm.Cond.laysFinal "WaterWorksModel" "WaterWorksModel" "faultKind" "[I") ∈ lw_all := lw_g (lw_at lw_m7 134 rfl) rfl
theorem q1643 : (Jvm.Cond.soleField "WaterWorksModel" "faultKind") ∈ lw_all := lw_g (lw_at lw_m7 135 rfl) rfl
theorem q1644 : (Jvm.Cond.lays "WaterWorksModel" "WaterWorksModel" "slows" "I") ∈ lw_all := lw_g (lw_at lw_m7 136 rfl) rfl
theorem q1645 : (Jvm.Cond.soleField "WaterWorksModel" "slows") ∈ lw_all := lw_g (lw_at lw_m7 137 rfl) rfl
theorem q1646 : (Jvm.Cond.laysFinal "WaterWorksModel" "WaterWorksModel" "slowAt" "[I") ∈ lw_all := lw_g (lw_at lw_m7 138 rfl) rfl
theorem q1647 : (Jvm.Cond.soleField "WaterWorksModel" "slowAt") ∈ lw_all := lw_g (lw_at lw_m7 139 rfl) rfl
theorem q1648 : (Jvm.Cond.laysFinal "WaterWorksModel" "WaterWorksModel" "slowAct" "[I") ∈ lw_all := lw_g (lw_at lw_m7 140 rfl) rfl
theorem q1649 : (Jvm.Cond.soleField "WaterWorksModel" "slowAct") ∈ lw_all := lw_g (lw_at lw_m7 141 rfl) rfl
theorem q1650 : (Jvm.Cond.laysFinal "WaterWorksModel" "WaterWorksModel" "slowFrom" "[I") ∈ lw_all := lw_g (lw_at lw_m7 142 rfl) rfl
theorem q1651 : (Jvm.Cond.soleField "WaterWorksModel" "slowFrom") ∈ lw_all := lw_g (lw_at lw_m7 143 rfl) rfl
theorem q1652 : (Jvm.Cond.laysFinal "WaterWorksModel" "WaterWorksModel" "slowTo" "[I") ∈ lw_all := lw_g (lw_at lw_m7 144 rfl) rfl
theorem q1653 : (Jvm.Cond.soleField "WaterWorksModel" "slowTo") ∈ lw_all := lw_g (lw_at lw_m7 145 rfl) rfl
theorem q1654 : (Jvm.Cond.laysFinal "WaterWorksModel" "WaterWorksModel" "slowBy" "[I") ∈ lw_all := lw_g (lw_at lw_m7 146 rfl) rfl
theorem q1655 : (Jvm.Cond.soleField "WaterWorksModel" "slowBy") ∈ lw_all := lw_g (lw_at lw_m7 147 rfl) rfl
theorem q1656 : (Jvm.Cond.lays "WaterWorksModel" "WaterWorksModel" "effects" "I") ∈ lw_all := lw_g (lw_at lw_m7 148 rfl) rfl
theorem q1657 : (Jvm.Cond.soleField "WaterWorksModel" "effects") ∈ lw_all := lw_g (lw_at lw_m7 149 rfl) rfl
theorem q1658 : (Jvm.Cond.laysFinal "WaterWorksModel" "WaterWorksModel" "effectAt" "[I") ∈ lw_all := lw_g (lw_at lw_m7 150 rfl) rfl
theorem q1659 : (Jvm.Cond.soleField "WaterWorksModel" "effectAt") ∈ lw_all := lw_g (lw_at lw_m7 151 rfl) rfl
theorem q1660 : (Jvm.Cond.laysFinal "WaterWorksModel" "WaterWorksModel" "effectOrder" "[I") ∈ lw_all := lw_g (lw_at lw_m7 152 rfl) rfl
theorem q1661 : (Jvm.Cond.soleField "WaterWorksModel" "effectOrder") ∈ lw_all := lw_g (lw_at lw_m7 153 rfl) rfl
theorem q1662 : (Jvm.Cond.laysFinal "WaterWorksModel" "WaterWorksModel" "effectKey" "[I") ∈ lw_all := lw_g (lw_at lw_m7 154 rfl) rfl
theorem q1663 : (Jvm.Cond.soleField "WaterWorksModel" "effectKey") ∈ lw_all := lw_g (lw_at lw_m7 155 rfl) rfl
theorem q1664 : (Jvm.Cond.laysFinal "WaterWorksModel" "WaterWorksModel" "effectLitres" "[I") ∈ lw_all := lw_g (lw_at lw_m7 156 rfl) rfl
theorem q1665 : (Jvm.Cond.soleField "WaterWorksModel" "effectLitres") ∈ lw_all := lw_g (lw_at lw_m7 157 rfl) rfl
theorem q1666 : (Jvm.Cond.laysFinal "WaterWorksModel" "WaterWorksModel" "effectTime" "[I") ∈ lw_all := lw_g (lw_at lw_m7 158 rfl) rfl
theorem q1667 : (Jvm.Cond.soleField "WaterWorksModel" "effectTime") ∈ lw_all := lw_g (lw_at lw_m7 159 rfl) rfl
theorem q1668 : (Jvm.Cond.lays "WaterWorksModel" "WaterWorksModel" "failures" "I") ∈ lw_all := lw_g (lw_at lw_m7 160 rfl) rfl
theorem q1669 : (Jvm.Cond.soleField "WaterWorksModel" "failures") ∈ lw_all := lw_g (lw_at lw_m7 161 rfl) rfl
theorem q1670 : (Jvm.Cond.laysFinal "WaterWorksModel" "WaterWorksModel" "kindOf" "[I") ∈ lw_all := lw_g (lw_at lw_m7 162 rfl) rfl
theorem q1671 : (Jvm.Cond.soleField "WaterWorksModel" "kindOf") ∈ lw_all := lw_g (lw_at lw_m7 163 rfl) rfl
theorem q1672 : (Jvm.Cond.laysFinal "WaterWorksModel" "WaterWorksModel" "failTime" "[I") ∈ lw_all := lw_g (lw_at lw_m7 164 rfl) rfl
theorem q1673 : (Jvm.Cond.soleField "WaterWorksModel" "failTime") ∈ lw_all := lw_g (lw_at lw_m7 165 rfl) rfl
theorem q1674 : (Jvm.Cond.laysFinal "WaterWorksModel" "WaterWorksModel" "failGuard" "[I") ∈ lw_all := lw_g (lw_at lw_m7 166 rfl) rfl
theorem q1675 : (Jvm.Cond.soleField "WaterWorksModel" "failGuard") ∈ lw_all := lw_g (lw_at lw_m7 167 rfl) rfl
theorem q1676 : (Jvm.Cond.laysFinal "WaterWorksModel" "WaterWorksModel" "failStation" "[I") ∈ lw_all := lw_g (lw_at lw_m7 168 rfl) rfl
theorem q1677 : (Jvm.Cond.soleField "WaterWorksModel" "failStation") ∈ lw_all := lw_g (lw_at lw_m7 169 rfl) rfl
theorem q1678 : (Jvm.Cond.laysFinal "WaterWorksModel" "WaterWorksModel" "cause" "[I") ∈ lw_all := lw_g (lw_at lw_m7 170 rfl) rfl
theorem q1679 : (Jvm.Cond.soleField "WaterWorksModel" "cause") ∈ lw_all := lw_g (lw_at lw_m7 171 rfl) rfl
theorem q1680 : (Jvm.Cond.laysFinal "WaterWorksModel" "WaterWorksModel" "suppressed" "[I") ∈ lw_all := lw_g (lw_at lw_m7 172 rfl) rfl
theorem q1681 : (Jvm.Cond.soleField "WaterWorksModel" "suppressed") ∈ lw_all := lw_g (lw_at lw_m7 173 rfl) rfl
theorem q1682 : (Jvm.Cond.lays "WaterWorksModel" "WaterWorksModel" "guards" "I") ∈ lw_all := lw_g (lw_at lw_m7 174 rfl) rfl
theorem q1683 : (Jvm.Cond.soleField "WaterWorksModel" "guards") ∈ lw_all := lw_g (lw_at lw_m7 175 rfl) rfl
theorem q1684 : (Jvm.Cond.laysFinal "WaterWorksModel" "WaterWorksModel" "sort" "[I") ∈ lw_all := lw_g (lw_at lw_m7 176 rfl) rfl
theorem q1685 : (Jvm.Cond.soleField "WaterWorksModel" "sort") ∈ lw_all := lw_g (lw_at lw_m7 177 rfl) rfl
theorem q1686 : (Jvm.Cond.laysFinal "WaterWorksModel" "WaterWorksModel" "one" "[I") ∈ lw_all := lw_g (lw_at lw_m7 178 rfl) rfl
theorem q1687 : (Jvm.Cond.soleField "WaterWorksModel" "one") ∈ lw_all := lw_g (lw_at lw_m7 179 rfl) rfl
theorem q1688 : (Jvm.Cond.laysFinal "WaterWorksModel" "WaterWorksModel" "two" "[I") ∈ lw_all := lw_g (lw_at lw_m7 180 rfl) rfl
theorem q1689 : (Jvm.Cond.soleField "WaterWorksModel" "two") ∈ lw_all := lw_g (lw_at lw_m7 181 rfl) rfl
theorem q1690 : (Jvm.Cond.laysFinal "WaterWorksModel" "WaterWorksModel" "three" "[I") ∈ lw_all := lw_g (lw_at lw_m7 182 rfl) rfl
theorem q1691 : (Jvm.Cond.soleField "WaterWorksModel" "three") ∈ lw_all := lw_g (lw_at lw_m7 183 rfl) rfl
theorem q1692 : (Jvm.Cond.laysFinal "WaterWorksModel" "WaterWorksModel" "names" "[I") ∈ lw_all := lw_g (lw_at lw_m7 184 rfl) rfl
theorem q1693 : (Jvm.Cond.soleField "WaterWorksModel" "names") ∈ lw_all := lw_g (lw_at lw_m7 185 rfl) rfl
theorem q1694 : (Jvm.Cond.laysFinal "WaterWorksModel" "WaterWorksModel" "state" "[I") ∈ lw_all := lw_g (lw_at lw_m7 186 rfl) rfl
theorem q1695 : (Jvm.Cond.soleField "WaterWorksModel" "state") ∈ lw_all := lw_g (lw_at lw_m7 187 rfl) rfl
theorem q1696 : (Jvm.Cond.laysFinal "WaterWorksModel" "WaterWorksModel" "counted" "[I") ∈ lw_all := lw_g (lw_at lw_m7 188 rfl) rfl
theorem q1697 : (Jvm.Cond.soleField "WaterWorksModel" "counted") ∈ lw_all := lw_g (lw_at lw_m7 189 rfl) rfl
theorem q1698 : (Jvm.Cond.laysFinal "WaterWorksModel" "WaterWorksModel" "until" "[I") ∈ lw_all := lw_g (lw_at lw_m7 190 rfl) rfl
theorem q1699 : (Jvm.Cond.soleField "WaterWorksModel" "until") ∈ lw_all := lw_g (lw_at lw_m7 191 rfl) rfl
theorem q1700 : (Jvm.Cond.laysFinal "WaterWorksModel" "WaterWorksModel" "working" "[I") ∈ lw_all := lw_g (lw_at lw_m7 192 rfl) rfl
theorem q1701 : (Jvm.Cond.soleField "WaterWorksModel" "working") ∈ lw_all := lw_g (lw_at lw_m7 193 rfl) rfl
theorem q1702 : (Jvm.Cond.laysFinal "WaterWorksModel" "WaterWorksModel" "waits" "[I") ∈ lw_all := lw_g (lw_at lw_m7 194 rfl) rfl
theorem q1703 : (Jvm.Cond.soleField "WaterWorksModel" "waits") ∈ lw_all := lw_g (lw_at lw_m7 195 rfl) rfl
theorem q1704 : (Jvm.Cond.laysFinal "WaterWorksModel" "WaterWorksModel" "refused" "[I") ∈ lw_all := lw_g (lw_at lw_m7 196 rfl) rfl
theorem q1705 : (Jvm.Cond.soleField "WaterWorksModel" "refused") ∈ lw_all := lw_g (lw_at lw_m7 197 rfl) rfl
theorem q1706 : (Jvm.Cond.laysFinal "WaterWorksModel" "WaterWorksModel" "tokens" "[I") ∈ lw_all := lw_g (lw_at lw_m7 198 rfl) rfl
theorem q1707 : (Jvm.Cond.soleField "WaterWorksModel" "tokens") ∈ lw_all := lw_g (lw_at lw_m7 199 rfl) rfl
theorem q1708 : (Jvm.Cond.laysFinal "WaterWorksModel" "WaterWorksModel" "queue" "[I") ∈ lw_all := lw_g (lw_at lw_m7 200 rfl) rfl
theorem q1709 : (Jvm.Cond.soleField "WaterWorksModel" "queue") ∈ lw_all := lw_g (lw_at lw_m7 201 rfl) rfl
theorem q1710 : (Jvm.Cond.laysFinal "WaterWorksModel" "WaterWorksModel" "keptAnswer" "[I") ∈ lw_all := lw_g (lw_at lw_m7 202 rfl) rfl
theorem q1711 : (Jvm.Cond.soleField "WaterWorksModel" "keptAnswer") ∈ lw_all := lw_g (lw_at lw_m7 203 rfl) rfl
theorem q1712 : (Jvm.Cond.laysFinal "WaterWorksModel" "WaterWorksModel" "keptTime" "[I") ∈ lw_all := lw_g (lw_at lw_m7 204 rfl) rfl
theorem q1713 : (Jvm.Cond.soleField "WaterWorksModel" "keptTime") ∈ lw_all := lw_g (lw_at lw_m7 205 rfl) rfl
theorem q1714 : (Jvm.Cond.laysFinal "WaterWorksModel" "WaterWorksModel" "keptBy" "[Z") ∈ lw_all := lw_g (lw_at lw_m7 206 rfl) rfl
theorem q1715 : (Jvm.Cond.soleField "WaterWorksModel" "keptBy") ∈ lw_all := lw_g (lw_at lw_m7 207 rfl) rfl
theorem q1716 : (Jvm.Cond.lays "WaterWorksModel" "WaterWorksModel" "towers" "I") ∈ lw_all := lw_g (lw_at lw_m7 208 rfl) rfl
theorem q1717 : (Jvm.Cond.soleField "WaterWorksModel" "towers") ∈ lw_all := lw_g (lw_at lw_m7 209 rfl) rfl
theorem q1718 : (Jvm.Cond.laysFinal "WaterWorksModel" "WaterWorksModel" "height" "[I") ∈ lw_all := lw_g (lw_at lw_m7 210 rfl) rfl
theorem q1719 : (Jvm.Cond.soleField "WaterWorksModel" "height") ∈ lw_all := lw_g (lw_at lw_m7 211 rfl) rfl
theorem q1720 : (Jvm.Cond.laysFinal "WaterWorksModel" "WaterWorksModel" "tower" "[I") ∈ lw_all := lw_g (lw_at lw_m7 212 rfl) rfl
theorem q1721 : (Jvm.Cond.soleField "WaterWorksModel" "tower") ∈ lw_all := lw_g (lw_at lw_m7 213 rfl) rfl
theorem q1722 : (Jvm.Cond.lays "WaterWorksModel" "WaterWorksModel" "orders" "I") ∈ lw_all := lw_g (lw_at lw_m7 214 rfl) rfl
theorem q1723 : (Jvm.Cond.soleField "WaterWorksModel" "orders") ∈ lw_all := lw_g (lw_at lw_m7 215 rfl) rfl
theorem q1724 : (Jvm.Cond.laysFinal "WaterWorksModel" "WaterWorksModel" "orderTower" "[I") ∈ lw_all := lw_g (lw_at lw_m7 216 rfl) rfl
theorem q1725 : (Jvm.Cond.soleField "WaterWorksModel" "orderTower") ∈ lw_all := lw_g (lw_at lw_m7 217 rfl) rfl
theorem q1726 : (Jvm.Cond.laysFinal "WaterWorksModel" "WaterWorksModel" "orderStation" "[I") ∈ lw_all := lw_g (lw_at lw_m7 218 rfl) rfl
theorem q1727 : (Jvm.Cond.soleField "WaterWorksModel" "orderStation") ∈ lw_all := lw_g (lw_at lw_m7 219 rfl) rfl
theorem q1728 : (Jvm.Cond.laysFinal "WaterWorksModel" "WaterWorksModel" "orderAct" "[I") ∈ lw_all := lw_g (lw_at lw_m7 220 rfl) rfl
theorem q1729 : (Jvm.Cond.soleField "WaterWorksModel" "orderAct") ∈ lw_all := lw_g (lw_at lw_m7 221 rfl) rfl
theorem q1730 : (Jvm.Cond.laysFinal "WaterWorksModel" "WaterWorksModel" "orderV" "[I") ∈ lw_all := lw_g (lw_at lw_m7 222 rfl) rfl
theorem q1731 : (Jvm.Cond.soleField "WaterWorksModel" "orderV") ∈ lw_all := lw_g (lw_at lw_m7 223 rfl) rfl
theorem q1732 : (Jvm.Cond.laysFinal "WaterWorksModel" "WaterWorksModel" "orderKey" "[I") ∈ lw_all := lw_g (lw_at lw_m7 224 rfl) rfl
theorem q1733 : (Jvm.Cond.soleField "WaterWorksModel" "orderKey") ∈ lw_all := lw_g (lw_at lw_m7 225 rfl) rfl
theorem q1734 : (Jvm.Cond.laysFinal "WaterWorksModel" "WaterWorksModel" "orderBegan" "[I") ∈ lw_all := lw_g (lw_at lw_m7 226 rfl) rfl
theorem q1735 : (Jvm.Cond.soleField "WaterWorksModel" "orderBegan") ∈ lw_all := lw_g (lw_at lw_m7 227 rfl) rfl
theorem q1736 : (Jvm.Cond.laysFinal "WaterWorksModel" "WaterWorksModel" "orderEnded" "[I") ∈ lw_all := lw_g (lw_at lw_m7 228 rfl) rfl
theorem q1737 : (Jvm.Cond.soleField "WaterWorksModel" "orderEnded") ∈ lw_all := lw_g (lw_at lw_m7 229 rfl) rfl
theorem q1738 : (Jvm.Cond.laysFinal "WaterWorksModel" "WaterWorksModel" "orderHow" "[I") ∈ lw_all := lw_g (lw_at lw_m7 230 rfl) rfl
theorem q1739 : (Jvm.Cond.soleField "WaterWorksModel" "orderHow") ∈ lw_all := lw_g (lw_at lw_m7 231 rfl) rfl
theorem q1740 : (Jvm.Cond.laysFinal "WaterWorksModel" "WaterWorksModel" "orderValue" "[I") ∈ lw_all := lw_g (lw_at lw_m7 232 rfl) rfl
theorem q1741 : (Jvm.Cond.soleField "WaterWorksModel" "orderValue") ∈ lw_all := lw_g (lw_at lw_m7 233 rfl) rfl
theorem q1742 : (Jvm.Cond.lays "WaterWorksModel" "WaterWorksModel" "ended" "I") ∈ lw_all := lw_g (lw_at lw_m7 234 rfl) rfl
theorem q1743 : (Jvm.Cond.soleField "WaterWorksModel" "ended") ∈ lw_all := lw_g (lw_at lw_m7 235 rfl) rfl
theorem q1744 : (Jvm.Cond.lays "WaterWorksModel" "WaterWorksModel" "calls" "I") ∈ lw_all := lw_g (lw_at lw_m7 236 rfl) rfl
theorem q1745 : (Jvm.Cond.soleField "WaterWorksModel" "calls") ∈ lw_all := lw_g (lw_at lw_m7 237 rfl) rfl
theorem q1746 : (Jvm.Cond.laysFinal "WaterWorksModel" "WaterWorksModel" "callOrder" "[I") ∈ lw_all := lw_g (lw_at lw_m7 238 rfl) rfl
theorem q1747 : (Jvm.Cond.soleField "WaterWorksModel" "callOrder") ∈ lw_all := lw_g (lw_at lw_m7 239 rfl) rfl
theorem q1748 : (Jvm.Cond.laysFinal "WaterWorksModel" "WaterWorksModel" "depth" "[I") ∈ lw_all := lw_g (lw_at lw_m8 0 rfl) rfl
theorem q1749 : (Jvm.Cond.soleField "WaterWorksModel" "depth") ∈ lw_all := lw_g (lw_at lw_m8 1 rfl) rfl
theorem q1750 : (Jvm.Cond.laysFinal "WaterWorksModel" "WaterWorksModel" "parent" "[I") ∈ lw_all := lw_g (lw_at lw_m8 2 rfl) rfl
theorem q1751 : (Jvm.Cond.soleField "WaterWorksModel" "parent") ∈ lw_all := lw_g (lw_at lw_m8 3 rfl) rfl
theorem q1752 : (Jvm.Cond.laysFinal "WaterWorksModel" "WaterWorksModel" "guardOf" "[I") ∈ lw_all := lw_g (lw_at lw_m8 4 rfl) rfl
theorem q1753 : (Jvm.Cond.soleField "WaterWorksModel" "guardOf") ∈ lw_all := lw_g (lw_at lw_m8 5 rfl) rfl
theorem q1754 : (Jvm.Cond.laysFinal "WaterWorksModel" "WaterWorksModel" "stationOf" "[I") ∈ lw_all := lw_g (lw_at lw_m8 6 rfl) rfl
theorem q1755 : (Jvm.Cond.soleField "WaterWorksModel" "stationOf") ∈ lw_all := lw_g (lw_at lw_m8 7 rfl) rfl
theorem q1756 : (Jvm.Cond.laysFinal "WaterWorksModel" "WaterWorksModel" "began" "[I") ∈ lw_all := lw_g (lw_at lw_m8 8 rfl) rfl
theorem q1757 : (Jvm.Cond.soleField "WaterWorksModel" "began") ∈ lw_all := lw_g (lw_at lw_m8 9 rfl) rfl
theorem q1758 : (Jvm.Cond.laysFinal "WaterWorksModel" "WaterWorksModel" "endedAt" "[I") ∈ lw_all := lw_g (lw_at lw_m8 10 rfl) rfl
theorem q1759 : (Jvm.Cond.soleField "WaterWorksModel" "endedAt") ∈ lw_all := lw_g (lw_at lw_m8 11 rfl) rfl
theorem q1760 : (Jvm.Cond.laysFinal "WaterWorksModel" "WaterWorksModel" "how" "[I") ∈ lw_all := lw_g (lw_at lw_m8 12 rfl) rfl
theorem q1761 : (Jvm.Cond.soleField "WaterWorksModel" "how") ∈ lw_all := lw_g (lw_at lw_m8 13 rfl) rfl
theorem q1762 : (Jvm.Cond.laysFinal "WaterWorksModel" "WaterWorksModel" "value" "[I") ∈ lw_all := lw_g (lw_at lw_m8 14 rfl) rfl
theorem q1763 : (Jvm.Cond.soleField "WaterWorksModel" "value") ∈ lw_all := lw_g (lw_at lw_m8 15 rfl) rfl
theorem q1764 : (Jvm.Cond.laysFinal "WaterWorksModel" "WaterWorksModel" "by" "[Z") ∈ lw_all := lw_g (lw_at lw_m8 16 rfl) rfl
theorem q1765 : (Jvm.Cond.soleField "WaterWorksModel" "by") ∈ lw_all := lw_g (lw_at lw_m8 17 rfl) rfl
theorem q1766 : (Jvm.Cond.laysFinal "WaterWorksModel" "WaterWorksModel" "due" "[I") ∈ lw_all := lw_g (lw_at lw_m8 18 rfl) rfl
theorem q1767 : (Jvm.Cond.soleField "WaterWorksModel" "due") ∈ lw_all := lw_g (lw_at lw_m8 19 rfl) rfl
theorem q1768 : (Jvm.Cond.laysFinal "WaterWorksModel" "WaterWorksModel" "inner" "[I") ∈ lw_all := lw_g (lw_at lw_m8 20 rfl) rfl
theorem q1769 : (Jvm.Cond.soleField "WaterWorksModel" "inner") ∈ lw_all := lw_g (lw_at lw_m8 21 rfl) rfl
theorem q1770 : (Jvm.Cond.laysFinal "WaterWorksModel" "WaterWorksModel" "joinedTo" "[I") ∈ lw_all := lw_g (lw_at lw_m8 22 rfl) rfl
theorem q1771 : (Jvm.Cond.soleField "WaterWorksModel" "joinedTo") ∈ lw_all := lw_g (lw_at lw_m8 23 rfl) rfl
theorem q1772 : (Jvm.Cond.laysFinal "WaterWorksModel" "WaterWorksModel" "waiting" "[Z") ∈ lw_all := lw_g (lw_at lw_m8 24 rfl) rfl
theorem q1773 : (Jvm.Cond.soleField "WaterWorksModel" "waiting") ∈ lw_all := lw_g (lw_at lw_m8 25 rfl) rfl
theorem q1774 : (Jvm.Cond.laysFinal "WaterWorksModel" "WaterWorksModel" "pauses" "[Z") ∈ lw_all := lw_g (lw_at lw_m8 26 rfl) rfl
theorem q1775 : (Jvm.Cond.soleField "WaterWorksModel" "pauses") ∈ lw_all := lw_g (lw_at lw_m8 27 rfl) rfl
theorem q1776 : (Jvm.Cond.laysFinal "WaterWorksModel" "WaterWorksModel" "works" "[Z") ∈ lw_all := lw_g (lw_at lw_m8 28 rfl) rfl
theorem q1777 : (Jvm.Cond.soleField "WaterWorksModel" "works") ∈ lw_all := lw_g (lw_at lw_m8 29 rfl) rfl
theorem q1778 : (Jvm.Cond.laysFinal "WaterWorksModel" "WaterWorksModel" "leads" "[Z") ∈ lw_all := lw_g (lw_at lw_m8 30 rfl) rfl
theorem q1779 : (Jvm.Cond.soleField "WaterWorksModel" "leads") ∈ lw_all := lw_g (lw_at lw_m8 31 rfl) rfl
theorem q1780 : (Jvm.Cond.laysFinal "WaterWorksModel" "WaterWorksModel" "trial" "[Z") ∈ lw_all := lw_g (lw_at lw_m8 32 rfl) rfl
theorem q1781 : (Jvm.Cond.soleField "WaterWorksModel" "trial") ∈ lw_all := lw_g (lw_at lw_m8 33 rfl) rfl
theorem q1782 : (Jvm.Cond.laysFinal "WaterWorksModel" "WaterWorksModel" "marked" "[Z") ∈ lw_all := lw_g (lw_at lw_m8 34 rfl) rfl
theorem q1783 : (Jvm.Cond.soleField "WaterWorksModel" "marked") ∈ lw_all := lw_g (lw_at lw_m8 35 rfl) rfl
theorem q1784 : (Jvm.Cond.laysFinal "WaterWorksModel" "WaterWorksModel" "taken" "[I") ∈ lw_all := lw_g (lw_at lw_m8 36 rfl) rfl
theorem q1785 : (Jvm.Cond.soleField "WaterWorksModel" "taken") ∈ lw_all := lw_g (lw_at lw_m8 37 rfl) rfl
theorem q1786 : (Jvm.Cond.lays "WaterWorksModel" "WaterWorksModel" "takens" "I") ∈ lw_all := lw_g (lw_at lw_m8 38 rfl) rfl
theorem q1787 : (Jvm.Cond.soleField "WaterWorksModel" "takens") ∈ lw_all := lw_g (lw_at lw_m8 39 rfl) rfl
theorem q1788 : (Jvm.Cond.laysFinal "WaterWorksModel" "WaterWorksModel" "job" "[I") ∈ lw_all := lw_g (lw_at lw_m8 40 rfl) rfl
theorem q1789 : (Jvm.Cond.soleField "WaterWorksModel" "job") ∈ lw_all := lw_g (lw_at lw_m8 41 rfl) rfl
theorem q1790 : (Jvm.Cond.laysFinal "WaterWorksModel" "WaterWorksModel" "jobA" "[I") ∈ lw_all := lw_g (lw_at lw_m8 42 rfl) rfl
theorem q1791 : (Jvm.Cond.soleField "WaterWorksModel" "jobA") ∈ lw_all := lw_g (lw_at lw_m8 43 rfl) rfl
theorem q1792 : (Jvm.Cond.laysFinal "WaterWorksModel" "WaterWorksModel" "jobB" "[I") ∈ lw_all := lw_g (lw_at lw_m8 44 rfl) rfl
theorem q1793 : (Jvm.Cond.soleField "WaterWorksModel" "jobB") ∈ lw_all := lw_g (lw_at lw_m8 45 rfl) rfl
theorem q1794 : (Jvm.Cond.laysFinal "WaterWorksModel" "WaterWorksModel" "jobC" "[I") ∈ lw_all := lw_g (lw_at lw_m8 46 rfl) rfl
theorem q1795 : (Jvm.Cond.soleField "WaterWorksModel" "jobC") ∈ lw_all := lw_g (lw_at lw_m8 47 rfl) rfl
theorem q1796 : (Jvm.Cond.laysFinal "WaterWorksModel" "WaterWorksModel" "jobD" "[I") ∈ lw_all := lw_g (lw_at lw_m8 48 rfl) rfl
theorem q1797 : (Jvm.Cond.soleField "WaterWorksModel" "jobD") ∈ lw_all := lw_g (lw_at lw_m8 49 rfl) rfl
theorem q1798 : (Jvm.Cond.lays "WaterWorksModel" "WaterWorksModel" "jobs" "I") ∈ lw_all := lw_g (lw_at lw_m8 50 rfl) rfl
theorem q1799 : (Jvm.Cond.soleField "WaterWorksModel" "jobs") ∈ lw_all := lw_g (lw_at lw_m8 51 rfl) rfl
theorem q1800 : (Jvm.Cond.lays "WaterWorksModel" "WaterWorksModel" "plans" "I") ∈ lw_all := lw_g (lw_at lw_m8 52 rfl) rfl
theorem q1801 : (Jvm.Cond.soleField "WaterWorksModel" "plans") ∈ lw_all := lw_g (lw_at lw_m8 53 rfl) rfl
theorem q1802 : (Jvm.Cond.laysFinal "WaterWorksModel" "WaterWorksModel" "planTower" "[I") ∈ lw_all := lw_g (lw_at lw_m8 54 rfl) rfl
theorem q1803 : (Jvm.Cond.soleField "WaterWorksModel" "planTower") ∈ lw_all := lw_g (lw_at lw_m8 55 rfl) rfl
theorem q1804 : (Jvm.Cond.laysFinal "WaterWorksModel" "WaterWorksModel" "planStation" "[I") ∈ lw_all := lw_g (lw_at lw_m8 56 rfl) rfl
theorem q1805 : (Jvm.Cond.soleField "WaterWorksModel" "planStation") ∈ lw_all := lw_g (lw_at lw_m8 57 rfl) rfl
theorem q1806 : (Jvm.Cond.laysFinal "WaterWorksModel" "WaterWorksModel" "planAct" "[I") ∈ lw_all := lw_g (lw_at lw_m8 58 rfl) rfl
theorem q1807 : (Jvm.Cond.soleField "WaterWorksModel" "planAct") ∈ lw_all := lw_g (lw_at lw_m8 59 rfl) rfl
theorem q1808 : (Jvm.Cond.laysFinal "WaterWorksModel" "WaterWorksModel" "planV" "[I") ∈ lw_all := lw_g (lw_at lw_m8 60 rfl) rfl
theorem q1809 : (Jvm.Cond.soleField "WaterWorksModel" "planV") ∈ lw_all := lw_g (lw_at lw_m8 61 rfl) rfl
theorem q1810 : (Jvm.Cond.laysFinal "WaterWorksModel" "WaterWorksModel" "every" "[I") ∈ lw_all := lw_g (lw_at lw_m8 62 rfl) rfl
theorem q1811 : (Jvm.Cond.soleField "WaterWorksModel" "every") ∈ lw_all := lw_g (lw_at lw_m8 63 rfl) rfl
theorem q1812 : (Jvm.Cond.laysFinal "WaterWorksModel" "WaterWorksModel" "low" "[I") ∈ lw_all := lw_g (lw_at lw_m8 64 rfl) rfl
theorem q1813 : (Jvm.Cond.soleField "WaterWorksModel" "low") ∈ lw_all := lw_g (lw_at lw_m8 65 rfl) rfl
theorem q1814 : (Jvm.Cond.laysFinal "WaterWorksModel" "WaterWorksModel" "high" "[I") ∈ lw_all := lw_g (lw_at lw_m8 66 rfl) rfl
theorem q1815 : (Jvm.Cond.soleField "WaterWorksModel" "high") ∈ lw_all := lw_g (lw_at lw_m8 67 rfl) rfl
theorem q1816 : (Jvm.Cond.laysFinal "WaterWorksModel" "WaterWorksModel" "planAt" "[I") ∈ lw_all := lw_g (lw_at lw_m8 68 rfl) rfl
theorem q1817 : (Jvm.Cond.soleField "WaterWorksModel" "planAt") ∈ lw_all := lw_g (lw_at lw_m8 69 rfl) rfl
theorem q1818 : (Jvm.Cond.laysFinal "WaterWorksModel" "WaterWorksModel" "planMade" "[I") ∈ lw_all := lw_g (lw_at lw_m8 70 rfl) rfl
theorem q1819 : (Jvm.Cond.soleField "WaterWorksModel" "planMade") ∈ lw_all := lw_g (lw_at lw_m8 71 rfl) rfl
theorem q1820 : (Jvm.Cond.laysFinal "WaterWorksModel" "WaterWorksModel" "planLatest" "[I") ∈ lw_all := lw_g (lw_at lw_m8 72 rfl) rfl
theorem q1821 : (Jvm.Cond.soleField "WaterWorksModel" "planLatest") ∈ lw_all := lw_g (lw_at lw_m8 73 rfl) rfl
theorem q1822 : (Jvm.Cond.laysFinal "WaterWorksModel" "WaterWorksModel" "missed" "[I") ∈ lw_all := lw_g (lw_at lw_m8 74 rfl) rfl
theorem q1823 : (Jvm.Cond.soleField "WaterWorksModel" "missed") ∈ lw_all := lw_g (lw_at lw_m8 75 rfl) rfl
theorem q1824 : (Jvm.Cond.laysFinal "WaterWorksModel" "WaterWorksModel" "passed" "[I") ∈ lw_all := lw_g (lw_at lw_m8 76 rfl) rfl
theorem q1825 : (Jvm.Cond.soleField "WaterWorksModel" "passed") ∈ lw_all := lw_g (lw_at lw_m8 77 rfl) rfl
theorem q1826 : (Jvm.Cond.laysFinal "WaterWorksModel" "WaterWorksModel" "stopped" "[Z") ∈ lw_all := lw_g (lw_at lw_m8 78 rfl) rfl
theorem q1827 : (Jvm.Cond.soleField "WaterWorksModel" "stopped") ∈ lw_all := lw_g (lw_at lw_m8 79 rfl) rfl
theorem q1828 : (Jvm.Cond.lays "WaterWorksModel" "WaterWorksModel" "alarms" "I") ∈ lw_all := lw_g (lw_at lw_m8 80 rfl) rfl
theorem q1829 : (Jvm.Cond.soleField "WaterWorksModel" "alarms") ∈ lw_all := lw_g (lw_at lw_m8 81 rfl) rfl
theorem q1830 : (Jvm.Cond.laysFinal "WaterWorksModel" "WaterWorksModel" "alarmSort" "[I") ∈ lw_all := lw_g (lw_at lw_m8 82 rfl) rfl
theorem q1831 : (Jvm.Cond.soleField "WaterWorksModel" "alarmSort") ∈ lw_all := lw_g (lw_at lw_m8 83 rfl) rfl
theorem q1832 : (Jvm.Cond.laysFinal "WaterWorksModel" "WaterWorksModel" "alarmX" "[I") ∈ lw_all := lw_g (lw_at lw_m8 84 rfl) rfl
theorem q1833 : (Jvm.Cond.soleField "WaterWorksModel" "alarmX") ∈ lw_all := lw_g (lw_at lw_m8 85 rfl) rfl
theorem q1834 : (Jvm.Cond.laysFinal "WaterWorksModel" "WaterWorksModel" "alarmY" "[I") ∈ lw_all := lw_g (lw_at lw_m8 86 rfl) rfl
theorem q1835 : (Jvm.Cond.soleField "WaterWorksModel" "alarmY") ∈ lw_all := lw_g (lw_at lw_m8 87 rfl) rfl
theorem q1836 : (Jvm.Cond.laysFinal "WaterWorksModel" "WaterWorksModel" "rings" "[I") ∈ lw_all := lw_g (lw_at lw_m8 88 rfl) rfl
theorem q1837 : (Jvm.Cond.soleField "WaterWorksModel" "rings") ∈ lw_all := lw_g (lw_at lw_m8 89 rfl) rfl
theorem q1838 : (Jvm.Cond.laysFinal "WaterWorksModel" "WaterWorksModel" "rang" "[I") ∈ lw_all := lw_g (lw_at lw_m8 90 rfl) rfl
theorem q1839 : (Jvm.Cond.soleField "WaterWorksModel" "rang") ∈ lw_all := lw_g (lw_at lw_m8 91 rfl) rfl
theorem q1840 : (Jvm.Cond.laysFinal "WaterWorksModel" "WaterWorksModel" "isOn" "[Z") ∈ lw_all := lw_g (lw_at lw_m8 92 rfl) rfl
theorem q1841 : (Jvm.Cond.soleField "WaterWorksModel" "isOn") ∈ lw_all := lw_g (lw_at lw_m8 93 rfl) rfl
theorem q1842 : (Jvm.Cond.superclass "WaterWorksModel" "java/lang/Object") ∈ lw_all := lw_g (lw_at lw_m8 94 rfl) rfl
theorem q1844 : (Jvm.Cond.instanceMethod ({ cls := "WaterWorksModel", name := "station", desc := "(III)I" } : Jvm.MethodName)) ∈ lw_all := lw_g (lw_at lw_m8 96 rfl) rfl
theorem q1845 : (Jvm.Cond.selects "WaterWorksModel" ({ cls := "WaterWorksModel", name := "station", desc := "(III)I" } : Jvm.MethodName) ({ cls := "WaterWorksModel", name := "station", desc := "(III)I" } : Jvm.MethodName)) ∈ lw_all := lw_g (lw_at lw_m8 97 rfl) rfl
theorem q1846 : (Jvm.Cond.code ({ cls := "WaterWorksModel", name := "station", desc := "(III)I" } : Jvm.MethodName) prog_26_method_4_code (4 : Nat) (Option.some Jvm.ClassFile.FieldType.int)) ∈ lw_all := lw_g (lw_at lw_m8 98 rfl) rfl
theorem q1847 : (Jvm.Cond.constant "WaterWorksModel" (342 : Nat) (1000000 : Int32)) ∈ lw_all := lw_g (lw_at lw_m8 99 rfl) rfl
theorem q1849 : (Jvm.Cond.instanceMethod ({ cls := "WaterWorksModel", name := "fault", desc := "(IIIII)I" } : Jvm.MethodName)) ∈ lw_all := lw_g (lw_at lw_m8 101 rfl) rfl
theorem q1850 : (Jvm.Cond.selects "WaterWorksModel" ({ cls := "WaterWorksModel", name := "fault", desc := "(IIIII)I" } : Jvm.MethodName) ({ cls := "WaterWorksModel", name := "fault", desc := "(IIIII)I" } : Jvm.MethodName)) ∈ lw_all := lw_g (lw_at lw_m8 102 rfl) rfl
theorem q1851 : (Jvm.Cond.code ({ cls := "WaterWorksModel", name := "fault", desc := "(IIIII)I" } : Jvm.MethodName) prog_26_method_5_code (6 : Nat) (Option.some Jvm.ClassFile.FieldType.int)) ∈ lw_all := lw_g (lw_at lw_m8 103 rfl) rfl
theorem q1852 : (Jvm.Cond.methodLink "WaterWorksModel" (343 : Nat) ({ cls := "WaterWorksModel", name := "isStation", desc := "(I)Z" } : Jvm.MethodName)) ∈ lw_all := lw_g (lw_at lw_m8 104 rfl) rfl
theorem q1853 : (Jvm.Cond.privateMethod ({ cls := "WaterWorksModel", name := "isStation", desc := "(I)Z" } : Jvm.MethodName)) ∈ lw_tbl := lw_at lw_m8 105 rfl
theorem q1854 : (Jvm.Cond.instanceMethod ({ cls := "WaterWorksModel", name := "isStation", desc := "(I)Z" } : Jvm.MethodName)) ∈ lw_all := lw_g (lw_at lw_m8 106 rfl) rfl
theorem q1855 : (Jvm.Cond.code ({ cls := "WaterWorksModel", name := "isStation", desc := "(I)Z" } : Jvm.MethodName) prog_26_method_2_code (2 : Nat) (Option.some Jvm.ClassFile.FieldType.boolean)) ∈ lw_all := lw_g (lw_at lw_m8 107 rfl) rfl
theorem q1856 : (Jvm.Cond.methodLink "WaterWorksModel" (347 : Nat) ({ cls := "WaterWorksModel", name := "isAct", desc := "(I)Z" } : Jvm.MethodName)) ∈ lw_all := lw_g (lw_at lw_m8 108 rfl) rfl
theorem q1857 : (Jvm.Cond.privateMethod ({ cls := "WaterWorksModel", name := "isAct", desc := "(I)Z" } : Jvm.MethodName)) ∈ lw_tbl := lw_at lw_m8 109 rfl
theorem q1858 : (Jvm.Cond.instanceMethod ({ cls := "WaterWorksModel", name := "isAct", desc := "(I)Z" } : Jvm.MethodName)) ∈ lw_all := lw_g (lw_at lw_m8 110 rfl) rfl
theorem q1859 : (Jvm.Cond.code ({ cls := "WaterWorksModel", name := "isAct", desc := "(I)Z" } : Jvm.MethodName) prog_26_method_3_code (2 : Nat) (Option.some Jvm.ClassFile.FieldType.boolean)) ∈ lw_all := lw_g (lw_at lw_m8 111 rfl) rfl
theorem q1861 : (Jvm.Cond.instanceMethod ({ cls := "WaterWorksModel", name := "slow", desc := "(IIIII)I" } : Jvm.MethodName)) ∈ lw_all := lw_g (lw_at lw_m8 113 rfl) rfl
theorem q1862 : (Jvm.Cond.selects "WaterWorksModel" ({ cls := "WaterWorksModel", name := "slow", desc := "(IIIII)I" } : Jvm.MethodName) ({ cls := "WaterWorksModel", name := "slow", desc := "(IIIII)I" } : Jvm.MethodName)) ∈ lw_all := lw_g (lw_at lw_m8 114 rfl) rfl
theorem q1863 : (Jvm.Cond.code ({ cls := "WaterWorksModel", name := "slow", desc := "(IIIII)I" } : Jvm.MethodName) prog_26_method_6_code (6 : Nat) (Option.some Jvm.ClassFile.FieldType.int)) ∈ lw_all := lw_g (lw_at lw_m8 115 rfl) rfl
theorem q1865 : (Jvm.Cond.instanceMethod ({ cls := "WaterWorksModel", name := "isOf", desc := "(II)I" } : Jvm.MethodName)) ∈ lw_all := lw_g (lw_at lw_m8 117 rfl) rfl
theorem q1866 : (Jvm.Cond.selects "WaterWorksModel" ({ cls := "WaterWorksModel", name := "isOf", desc := "(II)I" } : Jvm.MethodName) ({ cls := "WaterWorksModel", name := "isOf", desc := "(II)I" } : Jvm.MethodName)) ∈ lw_all := lw_g (lw_at lw_m8 118 rfl) rfl
theorem q1867 : (Jvm.Cond.code ({ cls := "WaterWorksModel", name := "isOf", desc := "(II)I" } : Jvm.MethodName) prog_26_method_9_code (3 : Nat) (Option.some Jvm.ClassFile.FieldType.int)) ∈ lw_all := lw_g (lw_at lw_m8 119 rfl) rfl
theorem q1868 : (Jvm.Cond.methodLink "WaterWorksModel" (354 : Nat) ({ cls := "WaterWorksModel", name := "isUnder", desc := "(II)Z" } : Jvm.MethodName)) ∈ lw_all := lw_g (lw_at lw_m8 120 rfl) rfl
theorem q1869 : (Jvm.Cond.privateMethod ({ cls := "WaterWorksModel", name := "isUnder", desc := "(II)Z" } : Jvm.MethodName)) ∈ lw_tbl := lw_at lw_m8 121 rfl
theorem q1870 : (Jvm.Cond.instanceMethod ({ cls := "WaterWorksModel", name := "isUnder", desc := "(II)Z" } : Jvm.MethodName)) ∈ lw_all := lw_g (lw_at lw_m8 122 rfl) rfl
theorem q1871 : (Jvm.Cond.code ({ cls := "WaterWorksModel", name := "isUnder", desc := "(II)Z" } : Jvm.MethodName) prog_26_method_8_code (4 : Nat) (Option.some Jvm.ClassFile.FieldType.boolean)) ∈ lw_all := lw_g (lw_at lw_m8 123 rfl) rfl
theorem q1872 : (Jvm.Cond.methodLink "WaterWorksModel" (350 : Nat) ({ cls := "WaterWorksModel", name := "over", desc := "(I)I" } : Jvm.MethodName)) ∈ lw_all := lw_g (lw_at lw_m8 124 rfl) rfl
theorem q1873 : (Jvm.Cond.privateMethod ({ cls := "WaterWorksModel", name := "over", desc := "(I)I" } : Jvm.MethodName)) ∈ lw_tbl := lw_at lw_m8 125 rfl
theorem q1874 : (Jvm.Cond.instanceMethod ({ cls := "WaterWorksModel", name := "over", desc := "(I)I" } : Jvm.MethodName)) ∈ lw_all := lw_g (lw_at lw_m8 126 rfl) rfl
theorem q1875 : (Jvm.Cond.code ({ cls := "WaterWorksModel", name := "over", desc := "(I)I" } : Jvm.MethodName) prog_26_method_7_code (2 : Nat) (Option.some Jvm.ClassFile.FieldType.int)) ∈ lw_all := lw_g (lw_at lw_m8 127 rfl) rfl
theorem q1877 : (Jvm.Cond.instanceMethod ({ cls := "WaterWorksModel", name := "failure", desc := "(II)I" } : Jvm.MethodName)) ∈ lw_all := lw_g (lw_at lw_m8 129 rfl) rfl
theorem q1878 : (Jvm.Cond.selects "WaterWorksModel" ({ cls := "WaterWorksModel", name := "failure", desc := "(II)I" } : Jvm.MethodName) ({ cls := "WaterWorksModel", name := "failure", desc := "(II)I" } : Jvm.MethodName)) ∈ lw_all := lw_g (lw_at lw_m8 130 rfl) rfl
theorem q1879 : (Jvm.Cond.code ({ cls := "WaterWorksModel", name := "failure", desc := "(II)I" } : Jvm.MethodName) prog_26_method_11_code (3 : Nat) (Option.some Jvm.ClassFile.FieldType.int)) ∈ lw_all := lw_g (lw_at lw_m8 131 rfl) rfl
theorem q1881 : (Jvm.Cond.instanceMethod ({ cls := "WaterWorksModel", name := "guard", desc := "(IIIII)I" } : Jvm.MethodName)) ∈ lw_all := lw_g (lw_at lw_m8 133 rfl) rfl
theorem q1882 : (Jvm.Cond.selects "WaterWorksModel" ({ cls := "WaterWorksModel", name := "guard", desc := "(IIIII)I" } : Jvm.MethodName) ({ cls := "WaterWorksModel", name := "guard", desc := "(IIIII)I" } : Jvm.MethodName)) ∈ lw_all := lw_g (lw_at lw_m8 134 rfl) rfl
theorem q1883 : (Jvm.Cond.code ({ cls := "WaterWorksModel", name := "guard", desc := "(IIIII)I" } : Jvm.MethodName) prog_26_method_15_code (9 : Nat) (Option.some Jvm.ClassFile.FieldType.int)) ∈ lw_all := lw_g (lw_at lw_m8 135 rfl) rfl
theorem q1884 : (Jvm.Cond.methodLink "WaterWorksModel" (362 : Nat) ({ cls := "WaterWorksModel", name := "isGood", desc := "(IIII)Z" } : Jvm.MethodName)) ∈ lw_all := lw_g (lw_at lw_m8 136 rfl) rfl
theorem q1885 : (Jvm.Cond.privateMethod ({ cls := "WaterWorksModel", name := "isGood", desc := "(IIII)Z" } : Jvm.MethodName)) ∈ lw_tbl := lw_at lw_m8 137 rfl
theorem q1886 : (Jvm.Cond.instanceMethod ({ cls := "WaterWorksModel", name := "isGood", desc := "(IIII)Z" } : Jvm.MethodName)) ∈ lw_all := lw_g (lw_at lw_m8 138 rfl) rfl
theorem q1887 : (Jvm.Cond.code ({ cls := "WaterWorksModel", name := "isGood", desc := "(IIII)Z" } : Jvm.MethodName) prog_26_method_14_code (5 : Nat) (Option.some Jvm.ClassFile.FieldType.boolean)) ∈ lw_all := lw_g (lw_at lw_m8 139 rfl) rfl
theorem q1888 : (Jvm.Cond.methodLink "WaterWorksModel" (358 : Nat) ({ cls := "WaterWorksModel", name := "in", desc := "(III)Z" } : Jvm.MethodName)) ∈ lw_all := lw_g (lw_at lw_m8 140 rfl) rfl
theorem q1889 : (Jvm.Cond.privateMethod ({ cls := "WaterWorksModel", name := "in", desc := "(III)Z" } : Jvm.MethodName)) ∈ lw_tbl := lw_at lw_m8 141 rfl
theorem q1890 : (Jvm.Cond.instanceMethod ({ cls := "WaterWorksModel", name := "in", desc := "(III)Z" } : Jvm.MethodName)) ∈ lw_all := lw_g (lw_at lw_m8 142 rfl) rfl
theorem q1891 : (Jvm.Cond.code ({ cls := "WaterWorksModel", name := "in", desc := "(III)Z" } : Jvm.MethodName) prog_26_method_13_code (4 : Nat) (Option.some Jvm.ClassFile.FieldType.boolean)) ∈ lw_all := lw_g (lw_at lw_m8 143 rfl) rfl
theorem q1893 : (Jvm.Cond.instanceMethod ({ cls := "WaterWorksModel", name := "on", desc := "(I)I" } : Jvm.MethodName)) ∈ lw_all := lw_g (lw_at lw_m8 145 rfl) rfl
theorem q1894 : (Jvm.Cond.selects "WaterWorksModel" ({ cls := "WaterWorksModel", name := "on", desc := "(I)I" } : Jvm.MethodName) ({ cls := "WaterWorksModel", name := "on", desc := "(I)I" } : Jvm.MethodName)) ∈ lw_all := lw_g (lw_at lw_m8 146 rfl) rfl
theorem q1895 : (Jvm.Cond.code ({ cls := "WaterWorksModel", name := "on", desc := "(I)I" } : Jvm.MethodName) prog_26_method_16_code (3 : Nat) (Option.some Jvm.ClassFile.FieldType.int)) ∈ lw_all := lw_g (lw_at lw_m8 147 rfl) rfl
theorem q1897 : (Jvm.Cond.instanceMethod ({ cls := "WaterWorksModel", name := "tower", desc := "()I" } : Jvm.MethodName)) ∈ lw_all := lw_g (lw_at lw_m8 149 rfl) rfl
theorem q1898 : (Jvm.Cond.selects "WaterWorksModel" ({ cls := "WaterWorksModel", name := "tower", desc := "()I" } : Jvm.MethodName) ({ cls := "WaterWorksModel", name := "tower", desc := "()I" } : Jvm.MethodName)) ∈ lw_all := lw_g (lw_at lw_m8 150 rfl) rfl
theorem q1899 : (Jvm.Cond.code ({ cls := "WaterWorksModel", name := "tower", desc := "()I" } : Jvm.MethodName) prog_26_method_17_code (2 : Nat) (Option.some Jvm.ClassFile.FieldType.int)) ∈ lw_all := lw_g (lw_at lw_m8 151 rfl) rfl
theorem q1901 : (Jvm.Cond.instanceMethod ({ cls := "WaterWorksModel", name := "order", desc := "(IIIII)I" } : Jvm.MethodName)) ∈ lw_all := lw_g (lw_at lw_m8 153 rfl) rfl
theorem q1902 : (Jvm.Cond.selects "WaterWorksModel" ({ cls := "WaterWorksModel", name := "order", desc := "(IIIII)I" } : Jvm.MethodName) ({ cls := "WaterWorksModel", name := "order", desc := "(IIIII)I" } : Jvm.MethodName)) ∈ lw_all := lw_g (lw_at lw_m8 154 rfl) rfl
theorem q1903 : (Jvm.Cond.code ({ cls := "WaterWorksModel", name := "order", desc := "(IIIII)I" } : Jvm.MethodName) prog_26_method_46_code (6 : Nat) (Option.some Jvm.ClassFile.FieldType.int)) ∈ lw_all := lw_g (lw_at lw_m8 155 rfl) rfl
theorem q1904 : (Jvm.Cond.methodLink "WaterWorksModel" (449 : Nat) ({ cls := "WaterWorksModel", name := "isTower", desc := "(I)Z" } : Jvm.MethodName)) ∈ lw_all := lw_g (lw_at lw_m8 156 rfl) rfl
theorem q1905 : (Jvm.Cond.privateMethod ({ cls := "WaterWorksModel", name := "isTower", desc := "(I)Z" } : Jvm.MethodName)) ∈ lw_tbl := lw_at lw_m8 157 rfl
theorem q1906 : (Jvm.Cond.instanceMethod ({ cls := "WaterWorksModel", name := "isTower", desc := "(I)Z" } : Jvm.MethodName)) ∈ lw_all := lw_g (lw_at lw_m8 158 rfl) rfl
theorem q1907 : (Jvm.Cond.code ({ cls := "WaterWorksModel", name := "isTower", desc := "(I)Z" } : Jvm.MethodName) prog_26_method_43_code (2 : Nat) (Option.some Jvm.ClassFile.FieldType.boolean)) ∈ lw_all := lw_g (lw_at lw_m8 159 rfl) rfl
theorem q1908 : (Jvm.Cond.methodLink "WaterWorksModel" (452 : Nat) ({ cls := "WaterWorksModel", name := "isAmount", desc := "(II)Z" } : Jvm.MethodName)) ∈ lw_all := lw_g (lw_at lw_m8 160 rfl) rfl
theorem q1909 : (Jvm.Cond.privateMethod ({ cls := "WaterWorksModel", name := "isAmount", desc := "(II)Z" } : Jvm.MethodName)) ∈ lw_tbl := lw_at lw_m8 161 rfl
theorem q1910 : (Jvm.Cond.instanceMethod ({ cls := "WaterWorksModel", name := "isAmount", desc := "(II)Z" } : Jvm.MethodName)) ∈ lw_all := lw_g (lw_at lw_m8 162 rfl) rfl
theorem q1911 : (Jvm.Cond.code ({ cls := "WaterWorksModel", name := "isAmount", desc := "(II)Z" } : Jvm.MethodName) prog_26_method_44_code (3 : Nat) (Option.some Jvm.ClassFile.FieldType.boolean)) ∈ lw_all := lw_g (lw_at lw_m8 163 rfl) rfl
theorem q1912 : (Jvm.Cond.methodLink "WaterWorksModel" (455 : Nat) ({ cls := "WaterWorksModel", name := "made", desc := "(IIIII)I" } : Jvm.MethodName)) ∈ lw_all := lw_g (lw_at lw_m8 164 rfl) rfl
theorem q1913 : (Jvm.Cond.privateMethod ({ cls := "WaterWorksModel", name := "made", desc := "(IIIII)I" } : Jvm.MethodName)) ∈ lw_tbl := lw_at lw_m8 165 rfl
theorem q1914 : (Jvm.Cond.instanceMethod ({ cls := "WaterWorksModel", name := "made", desc := "(IIIII)I" } : Jvm.MethodName)) ∈ lw_all := lw_g (lw_at lw_m8 166 rfl) rfl
theorem q1915 : (Jvm.Cond.code ({ cls := "WaterWorksModel", name := "made", desc := "(IIIII)I" } : Jvm.MethodName) prog_26_method_45_code (7 : Nat) (Option.some Jvm.ClassFile.FieldType.int)) ∈ lw_all := lw_g (lw_at lw_m8 167 rfl) rfl
theorem q1916 : (Jvm.Cond.methodLink "WaterWorksModel" (397 : Nat) ({ cls := "WaterWorksModel", name := "add", desc := "(IIIII)V" } : Jvm.MethodName)) ∈ lw_all := lw_g (lw_at lw_m8 168 rfl) rfl
theorem q1917 : (Jvm.Cond.privateMethod ({ cls := "WaterWorksModel", name := "add", desc := "(IIIII)V" } : Jvm.MethodName)) ∈ lw_tbl := lw_at lw_m8 169 rfl
theorem q1918 : (Jvm.Cond.instanceMethod ({ cls := "WaterWorksModel", name := "add", desc := "(IIIII)V" } : Jvm.MethodName)) ∈ lw_all := lw_g (lw_at lw_m8 170 rfl) rfl
theorem q1919 : (Jvm.Cond.code ({ cls := "WaterWorksModel", name := "add", desc := "(IIIII)V" } : Jvm.MethodName) prog_26_method_18_code (6 : Nat) (Option.none : Option Jvm.ClassFile.FieldType)) ∈ lw_all := lw_g (lw_at lw_m8 171 rfl) rfl
theorem q1920 : (Jvm.Cond.methodLink "WaterWorksModel" (446 : Nat) ({ cls := "WaterWorksModel", name := "work", desc := "()V" } : Jvm.MethodName)) ∈ lw_all := lw_g (lw_at lw_m8 172 rfl) rfl
theorem q1921 : (Jvm.Cond.privateMethod ({ cls := "WaterWorksModel", name := "work", desc := "()V" } : Jvm.MethodName)) ∈ lw_tbl := lw_at lw_m8 173 rfl
theorem q1922 : (Jvm.Cond.instanceMethod ({ cls := "WaterWorksModel", name := "work", desc := "()V" } : Jvm.MethodName)) ∈ lw_all := lw_g (lw_at lw_m8 174 rfl) rfl
theorem q1923 : (Jvm.Cond.code ({ cls := "WaterWorksModel", name := "work", desc := "()V" } : Jvm.MethodName) prog_26_method_19_code (2 : Nat) (Option.none : Option Jvm.ClassFile.FieldType)) ∈ lw_all := lw_g (lw_at lw_m8 175 rfl) rfl
theorem q1924 : (Jvm.Cond.methodLink "WaterWorksModel" (366 : Nat) ({ cls := "WaterWorksModel", name := "begins", desc := "(IIII)V" } : Jvm.MethodName)) ∈ lw_all := lw_g (lw_at lw_m8 176 rfl) rfl
theorem q1925 : (Jvm.Cond.privateMethod ({ cls := "WaterWorksModel", name := "begins", desc := "(IIII)V" } : Jvm.MethodName)) ∈ lw_tbl := lw_at lw_m8 177 rfl
theorem q1926 : (Jvm.Cond.instanceMethod ({ cls := "WaterWorksModel", name := "begins", desc := "(IIII)V" } : Jvm.MethodName)) ∈ lw_all := lw_g (lw_at lw_m8 178 rfl) rfl
theorem q1927 : (Jvm.Cond.code ({ cls := "WaterWorksModel", name := "begins", desc := "(IIII)V" } : Jvm.MethodName) prog_26_method_21_code (7 : Nat) (Option.none : Option Jvm.ClassFile.FieldType)) ∈ lw_all := lw_g (lw_at lw_m8 179 rfl) rfl
theorem q1928 : (Jvm.Cond.methodLink "WaterWorksModel" (387 : Nat) ({ cls := "WaterWorksModel", name := "guardAt", desc := "(II)I" } : Jvm.MethodName)) ∈ lw_all := lw_g (lw_at lw_m8 180 rfl) rfl
theorem q1929 : (Jvm.Cond.privateMethod ({ cls := "WaterWorksModel", name := "guardAt", desc := "(II)I" } : Jvm.MethodName)) ∈ lw_tbl := lw_at lw_m8 181 rfl
theorem q1930 : (Jvm.Cond.instanceMethod ({ cls := "WaterWorksModel", name := "guardAt", desc := "(II)I" } : Jvm.MethodName)) ∈ lw_all := lw_g (lw_at lw_m8 182 rfl) rfl
theorem q1931 : (Jvm.Cond.code ({ cls := "WaterWorksModel", name := "guardAt", desc := "(II)I" } : Jvm.MethodName) prog_26_method_20_code (3 : Nat) (Option.some Jvm.ClassFile.FieldType.int)) ∈ lw_all := lw_g (lw_at lw_m8 183 rfl) rfl
theorem q1932 : (Jvm.Cond.methodLink "WaterWorksModel" (391 : Nat) ({ cls := "WaterWorksModel", name := "entered", desc := "(II)V" } : Jvm.MethodName)) ∈ lw_all := lw_g (lw_at lw_m8 184 rfl) rfl
theorem q1933 : (Jvm.Cond.privateMethod ({ cls := "WaterWorksModel", name := "entered", desc := "(II)V" } : Jvm.MethodName)) ∈ lw_tbl := lw_at lw_m8 185 rfl
theorem q1934 : (Jvm.Cond.instanceMethod ({ cls := "WaterWorksModel", name := "entered", desc := "(II)V" } : Jvm.MethodName)) ∈ lw_all := lw_g (lw_at lw_m8 186 rfl) rfl
theorem q1935 : (Jvm.Cond.code ({ cls := "WaterWorksModel", name := "entered", desc := "(II)V" } : Jvm.MethodName) prog_26_method_24_code (5 : Nat) (Option.none : Option Jvm.ClassFile.FieldType)) ∈ lw_all := lw_g (lw_at lw_m8 187 rfl) rfl
theorem q1936 : (Jvm.Cond.methodLink "WaterWorksModel" (401 : Nat) ({ cls := "WaterWorksModel", name := "goesIn", desc := "(I)V" } : Jvm.MethodName)) ∈ lw_all := lw_g (lw_at lw_m8 188 rfl) rfl
theorem q1937 : (Jvm.Cond.privateMethod ({ cls := "WaterWorksModel", name := "goesIn", desc := "(I)V" } : Jvm.MethodName)) ∈ lw_tbl := lw_at lw_m8 189 rfl
theorem q1938 : (Jvm.Cond.instanceMethod ({ cls := "WaterWorksModel", name := "goesIn", desc := "(I)V" } : Jvm.MethodName)) ∈ lw_all := lw_g (lw_at lw_m8 190 rfl) rfl
theorem q1939 : (Jvm.Cond.code ({ cls := "WaterWorksModel", name := "goesIn", desc := "(I)V" } : Jvm.MethodName) prog_26_method_23_code (2 : Nat) (Option.none : Option Jvm.ClassFile.FieldType)) ∈ lw_all := lw_g (lw_at lw_m8 191 rfl) rfl
theorem q1940 : (Jvm.Cond.methodLink "WaterWorksModel" (405 : Nat) ({ cls := "WaterWorksModel", name := "setToWork", desc := "(II)V" } : Jvm.MethodName)) ∈ lw_all := lw_g (lw_at lw_m8 192 rfl) rfl
theorem q1941 : (Jvm.Cond.privateMethod ({ cls := "WaterWorksModel", name := "setToWork", desc := "(II)V" } : Jvm.MethodName)) ∈ lw_tbl := lw_at lw_m8 193 rfl
theorem q1942 : (Jvm.Cond.instanceMethod ({ cls := "WaterWorksModel", name := "setToWork", desc := "(II)V" } : Jvm.MethodName)) ∈ lw_all := lw_g (lw_at lw_m8 194 rfl) rfl
theorem q1943 : (Jvm.Cond.code ({ cls := "WaterWorksModel", name := "setToWork", desc := "(II)V" } : Jvm.MethodName) prog_26_method_26_code (3 : Nat) (Option.none : Option Jvm.ClassFile.FieldType)) ∈ lw_all := lw_g (lw_at lw_m8 195 rfl) rfl
theorem q1944 : (Jvm.Cond.methodLink "WaterWorksModel" (408 : Nat) ({ cls := "WaterWorksModel", name := "isAlike", desc := "(II)Z" } : Jvm.MethodName)) ∈ lw_all := lw_g (lw_at lw_m8 196 rfl) rfl
theorem q1945 : (Jvm.Cond.privateMethod ({ cls := "WaterWorksModel", name := "isAlike", desc := "(II)Z" } : Jvm.MethodName)) ∈ lw_tbl := lw_at lw_m8 197 rfl
theorem q1946 : (Jvm.Cond.instanceMethod ({ cls := "WaterWorksModel", name := "isAlike", desc := "(II)Z" } : Jvm.MethodName)) ∈ lw_all := lw_g (lw_at lw_m8 198 rfl) rfl
theorem q1947 : (Jvm.Cond.code ({ cls := "WaterWorksModel", name := "isAlike", desc := "(II)Z" } : Jvm.MethodName) prog_26_method_25_code (3 : Nat) (Option.some Jvm.ClassFile.FieldType.boolean)) ∈ lw_all := lw_g (lw_at lw_m8 199 rfl) rfl
theorem q1948 : (Jvm.Cond.methodLink "WaterWorksModel" (394 : Nat) ({ cls := "WaterWorksModel", name := "tryEnd", desc := "(II)I" } : Jvm.MethodName)) ∈ lw_all := lw_g (lw_at lw_m8 200 rfl) rfl
theorem q1949 : (Jvm.Cond.privateMethod ({ cls := "WaterWorksModel", name := "tryEnd", desc := "(II)I" } : Jvm.MethodName)) ∈ lw_tbl := lw_at lw_m8 201 rfl
theorem q1950 : (Jvm.Cond.instanceMethod ({ cls := "WaterWorksModel", name := "tryEnd", desc := "(II)I" } : Jvm.MethodName)) ∈ lw_all := lw_g (lw_at lw_m8 202 rfl) rfl
theorem q1951 : (Jvm.Cond.code ({ cls := "WaterWorksModel", name := "tryEnd", desc := "(II)I" } : Jvm.MethodName) prog_26_method_22_code (5 : Nat) (Option.some Jvm.ClassFile.FieldType.int)) ∈ lw_all := lw_g (lw_at lw_m8 203 rfl) rfl
theorem q1952 : (Jvm.Cond.methodLink "WaterWorksModel" (370 : Nat) ({ cls := "WaterWorksModel", name := "ends", desc := "(IIIZ)V" } : Jvm.MethodName)) ∈ lw_all := lw_g (lw_at lw_m8 204 rfl) rfl
theorem q1953 : (Jvm.Cond.privateMethod ({ cls := "WaterWorksModel", name := "ends", desc := "(IIIZ)V" } : Jvm.MethodName)) ∈ lw_tbl := lw_at lw_m8 205 rfl
theorem q1954 : (Jvm.Cond.instanceMethod ({ cls := "WaterWorksModel", name := "ends", desc := "(IIIZ)V" } : Jvm.MethodName)) ∈ lw_all := lw_g (lw_at lw_m8 206 rfl) rfl
theorem q1955 : (Jvm.Cond.code ({ cls := "WaterWorksModel", name := "ends", desc := "(IIIZ)V" } : Jvm.MethodName) prog_26_method_28_code (7 : Nat) (Option.none : Option Jvm.ClassFile.FieldType)) ∈ lw_all := lw_g (lw_at lw_m8 207 rfl) rfl
theorem q1956 : (Jvm.Cond.methodLink "WaterWorksModel" (415 : Nat) ({ cls := "WaterWorksModel", name := "told", desc := "(II)V" } : Jvm.MethodName)) ∈ lw_all := lw_g (lw_at lw_m8 208 rfl) rfl
theorem q1957 : (Jvm.Cond.privateMethod ({ cls := "WaterWorksModel", name := "told", desc := "(II)V" } : Jvm.MethodName)) ∈ lw_tbl := lw_at lw_m8 209 rfl
theorem q1958 : (Jvm.Cond.instanceMethod ({ cls := "WaterWorksModel", name := "told", desc := "(II)V" } : Jvm.MethodName)) ∈ lw_all := lw_g (lw_at lw_m8 210 rfl) rfl
theorem q1959 : (Jvm.Cond.code ({ cls := "WaterWorksModel", name := "told", desc := "(II)V" } : Jvm.MethodName) prog_26_method_32_code (5 : Nat) (Option.none : Option Jvm.ClassFile.FieldType)) ∈ lw_all := lw_g (lw_at lw_m8 211 rfl) rfl
theorem q1960 : (Jvm.Cond.methodLink "WaterWorksModel" (418 : Nat) ({ cls := "WaterWorksModel", name := "fuseTold", desc := "(III)V" } : Jvm.MethodName)) ∈ lw_all := lw_g (lw_at lw_m8 212 rfl) rfl
theorem q1961 : (Jvm.Cond.privateMethod ({ cls := "WaterWorksModel", name := "fuseTold", desc := "(III)V" } : Jvm.MethodName)) ∈ lw_tbl := lw_at lw_m8 213 rfl
theorem q1962 : (Jvm.Cond.instanceMethod ({ cls := "WaterWorksModel", name := "fuseTold", desc := "(III)V" } : Jvm.MethodName)) ∈ lw_all := lw_g (lw_at lw_m8 214 rfl) rfl
theorem q1963 : (Jvm.Cond.code ({ cls := "WaterWorksModel", name := "fuseTold", desc := "(III)V" } : Jvm.MethodName) prog_26_method_33_code (5 : Nat) (Option.none : Option Jvm.ClassFile.FieldType)) ∈ lw_all := lw_g (lw_at lw_m8 215 rfl) rfl
theorem q1964 : (Jvm.Cond.methodLink "WaterWorksModel" (434 : Nat) ({ cls := "WaterWorksModel", name := "isNamed", desc := "(II)Z" } : Jvm.MethodName)) ∈ lw_all := lw_g (lw_at lw_m8 216 rfl) rfl
theorem q1965 : (Jvm.Cond.privateMethod ({ cls := "WaterWorksModel", name := "isNamed", desc := "(II)Z" } : Jvm.MethodName)) ∈ lw_tbl := lw_at lw_m8 217 rfl
theorem q1966 : (Jvm.Cond.instanceMethod ({ cls := "WaterWorksModel", name := "isNamed", desc := "(II)Z" } : Jvm.MethodName)) ∈ lw_all := lw_g (lw_at lw_m8 218 rfl) rfl
theorem q1967 : (Jvm.Cond.code ({ cls := "WaterWorksModel", name := "isNamed", desc := "(II)Z" } : Jvm.MethodName) prog_26_method_30_code (3 : Nat) (Option.some Jvm.ClassFile.FieldType.boolean)) ∈ lw_all := lw_g (lw_at lw_m8 219 rfl) rfl
theorem q1968 : (Jvm.Cond.methodLink "WaterWorksModel" (437 : Nat) ({ cls := "WaterWorksModel", name := "opens", desc := "(II)V" } : Jvm.MethodName)) ∈ lw_all := lw_g (lw_at lw_m8 220 rfl) rfl
theorem q1969 : (Jvm.Cond.privateMethod ({ cls := "WaterWorksModel", name := "opens", desc := "(II)V" } : Jvm.MethodName)) ∈ lw_tbl := lw_at lw_m8 221 rfl
theorem q1970 : (Jvm.Cond.instanceMethod ({ cls := "WaterWorksModel", name := "opens", desc := "(II)V" } : Jvm.MethodName)) ∈ lw_all := lw_g (lw_at lw_m8 222 rfl) rfl
theorem q1971 : (Jvm.Cond.code ({ cls := "WaterWorksModel", name := "opens", desc := "(II)V" } : Jvm.MethodName) prog_26_method_31_code (3 : Nat) (Option.none : Option Jvm.ClassFile.FieldType)) ∈ lw_all := lw_g (lw_at lw_m8 223 rfl) rfl
theorem q1972 : (Jvm.Cond.methodLink "WaterWorksModel" (422 : Nat) ({ cls := "WaterWorksModel", name := "alike", desc := "(II)V" } : Jvm.MethodName)) ∈ lw_all := lw_g (lw_at lw_m8 224 rfl) rfl
theorem q1973 : (Jvm.Cond.privateMethod ({ cls := "WaterWorksModel", name := "alike", desc := "(II)V" } : Jvm.MethodName)) ∈ lw_tbl := lw_at lw_m8 225 rfl
theorem q1974 : (Jvm.Cond.instanceMethod ({ cls := "WaterWorksModel", name := "alike", desc := "(II)V" } : Jvm.MethodName)) ∈ lw_all := lw_g (lw_at lw_m8 226 rfl) rfl
theorem q1975 : (Jvm.Cond.code ({ cls := "WaterWorksModel", name := "alike", desc := "(II)V" } : Jvm.MethodName) prog_26_method_29_code (3 : Nat) (Option.none : Option Jvm.ClassFile.FieldType)) ∈ lw_all := lw_g (lw_at lw_m8 227 rfl) rfl
theorem q1976 : (Jvm.Cond.methodLink "WaterWorksModel" (425 : Nat) ({ cls := "WaterWorksModel", name := "retryTold", desc := "(III)V" } : Jvm.MethodName)) ∈ lw_all := lw_g (lw_at lw_m8 228 rfl) rfl
theorem q1977 : (Jvm.Cond.privateMethod ({ cls := "WaterWorksModel", name := "retryTold", desc := "(III)V" } : Jvm.MethodName)) ∈ lw_tbl := lw_at lw_m8 229 rfl
theorem q1978 : (Jvm.Cond.instanceMethod ({ cls := "WaterWorksModel", name := "retryTold", desc := "(III)V" } : Jvm.MethodName)) ∈ lw_all := lw_g (lw_at lw_m8 230 rfl) rfl
theorem q1979 : (Jvm.Cond.code ({ cls := "WaterWorksModel", name := "retryTold", desc := "(III)V" } : Jvm.MethodName) prog_26_method_34_code (6 : Nat) (Option.none : Option Jvm.ClassFile.FieldType)) ∈ lw_all := lw_g (lw_at lw_m8 231 rfl) rfl
theorem q1980 : (Jvm.Cond.methodLink "WaterWorksModel" (428 : Nat) ({ cls := "WaterWorksModel", name := "hedgeTold", desc := "(II)V" } : Jvm.MethodName)) ∈ lw_all := lw_g (lw_at lw_m8 232 rfl) rfl
theorem q1981 : (Jvm.Cond.privateMethod ({ cls := "WaterWorksModel", name := "hedgeTold", desc := "(II)V" } : Jvm.MethodName)) ∈ lw_tbl := lw_at lw_m8 233 rfl
theorem q1982 : (Jvm.Cond.instanceMethod ({ cls := "WaterWorksModel", name := "hedgeTold", desc := "(II)V" } : Jvm.MethodName)) ∈ lw_all := lw_g (lw_at lw_m8 234 rfl) rfl
theorem q1983 : (Jvm.Cond.code ({ cls := "WaterWorksModel", name := "hedgeTold", desc := "(II)V" } : Jvm.MethodName) prog_26_method_36_code (6 : Nat) (Option.none : Option Jvm.ClassFile.FieldType)) ∈ lw_all := lw_g (lw_at lw_m8 235 rfl) rfl
theorem q1984 : (Jvm.Cond.methodLink "WaterWorksModel" (440 : Nat) ({ cls := "WaterWorksModel", name := "otherOf", desc := "(II)I" } : Jvm.MethodName)) ∈ lw_all := lw_g (lw_at lw_m8 236 rfl) rfl
theorem q1985 : (Jvm.Cond.privateMethod ({ cls := "WaterWorksModel", name := "otherOf", desc := "(II)I" } : Jvm.MethodName)) ∈ lw_tbl := lw_at lw_m8 237 rfl
theorem q1986 : (Jvm.Cond.instanceMethod ({ cls := "WaterWorksModel", name := "otherOf", desc := "(II)I" } : Jvm.MethodName)) ∈ lw_all := lw_g (lw_at lw_m8 238 rfl) rfl
theorem q1987 : (Jvm.Cond.code ({ cls := "WaterWorksModel", name := "otherOf", desc := "(II)I" } : Jvm.MethodName) prog_26_method_35_code (5 : Nat) (Option.some Jvm.ClassFile.FieldType.int)) ∈ lw_all := lw_g (lw_at lw_m8 239 rfl) rfl
theorem q1988 : (Jvm.Cond.methodLink "WaterWorksModel" (443 : Nat) ({ cls := "WaterWorksModel", name := "takeBack", desc := "(II)I" } : Jvm.MethodName)) ∈ lw_all := lw_g (lw_at lw_m9 0 rfl) rfl
theorem q1989 : (Jvm.Cond.privateMethod ({ cls := "WaterWorksModel", name := "takeBack", desc := "(II)I" } : Jvm.MethodName)) ∈ lw_tbl := lw_at lw_m9 1 rfl
theorem q1990 : (Jvm.Cond.instanceMethod ({ cls := "WaterWorksModel", name := "takeBack", desc := "(II)I" } : Jvm.MethodName)) ∈ lw_all := lw_g (lw_at lw_m9 2 rfl) rfl
theorem q1991 : (Jvm.Cond.code ({ cls := "WaterWorksModel", name := "takeBack", desc := "(II)I" } : Jvm.MethodName) prog_26_method_40_code (5 : Nat) (Option.some Jvm.ClassFile.FieldType.int)) ∈ lw_all := lw_g (lw_at lw_m9 3 rfl) rfl
theorem q1992 : (Jvm.Cond.methodLink "WaterWorksModel" (431 : Nat) ({ cls := "WaterWorksModel", name := "fallbackTold", desc := "(III)V" } : Jvm.MethodName)) ∈ lw_all := lw_g (lw_at lw_m9 4 rfl) rfl
theorem q1993 : (Jvm.Cond.privateMethod ({ cls := "WaterWorksModel", name := "fallbackTold", desc := "(III)V" } : Jvm.MethodName)) ∈ lw_tbl := lw_at lw_m9 5 rfl
theorem q1994 : (Jvm.Cond.instanceMethod ({ cls := "WaterWorksModel", name := "fallbackTold", desc := "(III)V" } : Jvm.MethodName)) ∈ lw_all := lw_g (lw_at lw_m9 6 rfl) rfl
theorem q1995 : (Jvm.Cond.code ({ cls := "WaterWorksModel", name := "fallbackTold", desc := "(III)V" } : Jvm.MethodName) prog_26_method_37_code (4 : Nat) (Option.none : Option Jvm.ClassFile.FieldType)) ∈ lw_all := lw_g (lw_at lw_m9 7 rfl) rfl
theorem q1996 : (Jvm.Cond.methodLink "WaterWorksModel" (411 : Nat) ({ cls := "WaterWorksModel", name := "fails", desc := "(III)I" } : Jvm.MethodName)) ∈ lw_all := lw_g (lw_at lw_m9 8 rfl) rfl
theorem q1997 : (Jvm.Cond.privateMethod ({ cls := "WaterWorksModel", name := "fails", desc := "(III)I" } : Jvm.MethodName)) ∈ lw_tbl := lw_at lw_m9 9 rfl
theorem q1998 : (Jvm.Cond.instanceMethod ({ cls := "WaterWorksModel", name := "fails", desc := "(III)I" } : Jvm.MethodName)) ∈ lw_all := lw_g (lw_at lw_m9 10 rfl) rfl
theorem q1999 : (Jvm.Cond.code ({ cls := "WaterWorksModel", name := "fails", desc := "(III)I" } : Jvm.MethodName) prog_26_method_10_code (4 : Nat) (Option.some Jvm.ClassFile.FieldType.int)) ∈ lw_all := lw_g (lw_at lw_m9 11 rfl) rfl
theorem q2000 : (Jvm.Cond.methodLink "WaterWorksModel" (374 : Nat) ({ cls := "WaterWorksModel", name := "failsNow", desc := "(II)V" } : Jvm.MethodName)) ∈ lw_all := lw_g (lw_at lw_m9 12 rfl) rfl
theorem q2001 : (Jvm.Cond.privateMethod ({ cls := "WaterWorksModel", name := "failsNow", desc := "(II)V" } : Jvm.MethodName)) ∈ lw_tbl := lw_at lw_m9 13 rfl
theorem q2002 : (Jvm.Cond.instanceMethod ({ cls := "WaterWorksModel", name := "failsNow", desc := "(II)V" } : Jvm.MethodName)) ∈ lw_all := lw_g (lw_at lw_m9 14 rfl) rfl
theorem q2003 : (Jvm.Cond.code ({ cls := "WaterWorksModel", name := "failsNow", desc := "(II)V" } : Jvm.MethodName) prog_26_method_27_code (3 : Nat) (Option.none : Option Jvm.ClassFile.FieldType)) ∈ lw_all := lw_g (lw_at lw_m9 15 rfl) rfl
theorem q2004 : (Jvm.Cond.methodLink "WaterWorksModel" (378 : Nat) ({ cls := "WaterWorksModel", name := "freeJoined", desc := "(II)V" } : Jvm.MethodName)) ∈ lw_all := lw_g (lw_at lw_m9 16 rfl) rfl
theorem q2005 : (Jvm.Cond.privateMethod ({ cls := "WaterWorksModel", name := "freeJoined", desc := "(II)V" } : Jvm.MethodName)) ∈ lw_tbl := lw_at lw_m9 17 rfl
theorem q2006 : (Jvm.Cond.instanceMethod ({ cls := "WaterWorksModel", name := "freeJoined", desc := "(II)V" } : Jvm.MethodName)) ∈ lw_all := lw_g (lw_at lw_m9 18 rfl) rfl
theorem q2007 : (Jvm.Cond.code ({ cls := "WaterWorksModel", name := "freeJoined", desc := "(II)V" } : Jvm.MethodName) prog_26_method_38_code (4 : Nat) (Option.none : Option Jvm.ClassFile.FieldType)) ∈ lw_all := lw_g (lw_at lw_m9 19 rfl) rfl
theorem q2008 : (Jvm.Cond.methodLink "WaterWorksModel" (381 : Nat) ({ cls := "WaterWorksModel", name := "takenBack", desc := "(II)V" } : Jvm.MethodName)) ∈ lw_all := lw_g (lw_at lw_m9 20 rfl) rfl
theorem q2009 : (Jvm.Cond.privateMethod ({ cls := "WaterWorksModel", name := "takenBack", desc := "(II)V" } : Jvm.MethodName)) ∈ lw_tbl := lw_at lw_m9 21 rfl
theorem q2010 : (Jvm.Cond.instanceMethod ({ cls := "WaterWorksModel", name := "takenBack", desc := "(II)V" } : Jvm.MethodName)) ∈ lw_all := lw_g (lw_at lw_m9 22 rfl) rfl
theorem q2011 : (Jvm.Cond.code ({ cls := "WaterWorksModel", name := "takenBack", desc := "(II)V" } : Jvm.MethodName) prog_26_method_41_code (7 : Nat) (Option.none : Option Jvm.ClassFile.FieldType)) ∈ lw_all := lw_g (lw_at lw_m9 23 rfl) rfl
theorem q2012 : (Jvm.Cond.methodLink "WaterWorksModel" (384 : Nat) ({ cls := "WaterWorksModel", name := "gone", desc := "(II)V" } : Jvm.MethodName)) ∈ lw_all := lw_g (lw_at lw_m9 24 rfl) rfl
theorem q2013 : (Jvm.Cond.privateMethod ({ cls := "WaterWorksModel", name := "gone", desc := "(II)V" } : Jvm.MethodName)) ∈ lw_tbl := lw_at lw_m9 25 rfl
theorem q2014 : (Jvm.Cond.instanceMethod ({ cls := "WaterWorksModel", name := "gone", desc := "(II)V" } : Jvm.MethodName)) ∈ lw_all := lw_g (lw_at lw_m9 26 rfl) rfl
theorem q2015 : (Jvm.Cond.code ({ cls := "WaterWorksModel", name := "gone", desc := "(II)V" } : Jvm.MethodName) prog_26_method_39_code (4 : Nat) (Option.none : Option Jvm.ClassFile.FieldType)) ∈ lw_all := lw_g (lw_at lw_m9 27 rfl) rfl
theorem q2017 : (Jvm.Cond.instanceMethod ({ cls := "WaterWorksModel", name := "cancel", desc := "(I)I" } : Jvm.MethodName)) ∈ lw_all := lw_g (lw_at lw_m9 29 rfl) rfl
theorem q2018 : (Jvm.Cond.selects "WaterWorksModel" ({ cls := "WaterWorksModel", name := "cancel", desc := "(I)I" } : Jvm.MethodName) ({ cls := "WaterWorksModel", name := "cancel", desc := "(I)I" } : Jvm.MethodName)) ∈ lw_all := lw_g (lw_at lw_m9 30 rfl) rfl
theorem q2019 : (Jvm.Cond.code ({ cls := "WaterWorksModel", name := "cancel", desc := "(I)I" } : Jvm.MethodName) prog_26_method_47_code (3 : Nat) (Option.some Jvm.ClassFile.FieldType.int)) ∈ lw_all := lw_g (lw_at lw_m9 31 rfl) rfl
theorem q2021 : (Jvm.Cond.instanceMethod ({ cls := "WaterWorksModel", name := "plan", desc := "(IIIIIII)I" } : Jvm.MethodName)) ∈ lw_all := lw_g (lw_at lw_m9 33 rfl) rfl
theorem q2022 : (Jvm.Cond.selects "WaterWorksModel" ({ cls := "WaterWorksModel", name := "plan", desc := "(IIIIIII)I" } : Jvm.MethodName) ({ cls := "WaterWorksModel", name := "plan", desc := "(IIIIIII)I" } : Jvm.MethodName)) ∈ lw_all := lw_g (lw_at lw_m9 34 rfl) rfl
theorem q2023 : (Jvm.Cond.code ({ cls := "WaterWorksModel", name := "plan", desc := "(IIIIIII)I" } : Jvm.MethodName) prog_26_method_48_code (9 : Nat) (Option.some Jvm.ClassFile.FieldType.int)) ∈ lw_all := lw_g (lw_at lw_m9 35 rfl) rfl
theorem q2025 : (Jvm.Cond.instanceMethod ({ cls := "WaterWorksModel", name := "stop", desc := "(I)I" } : Jvm.MethodName)) ∈ lw_all := lw_g (lw_at lw_m9 37 rfl) rfl
theorem q2026 : (Jvm.Cond.selects "WaterWorksModel" ({ cls := "WaterWorksModel", name := "stop", desc := "(I)I" } : Jvm.MethodName) ({ cls := "WaterWorksModel", name := "stop", desc := "(I)I" } : Jvm.MethodName)) ∈ lw_all := lw_g (lw_at lw_m9 38 rfl) rfl
theorem q2027 : (Jvm.Cond.code ({ cls := "WaterWorksModel", name := "stop", desc := "(I)I" } : Jvm.MethodName) prog_26_method_49_code (2 : Nat) (Option.some Jvm.ClassFile.FieldType.int)) ∈ lw_all := lw_g (lw_at lw_m9 39 rfl) rfl
theorem q2029 : (Jvm.Cond.instanceMethod ({ cls := "WaterWorksModel", name := "planned", desc := "(II)I" } : Jvm.MethodName)) ∈ lw_all := lw_g (lw_at lw_m9 41 rfl) rfl
theorem q2030 : (Jvm.Cond.selects "WaterWorksModel" ({ cls := "WaterWorksModel", name := "planned", desc := "(II)I" } : Jvm.MethodName) ({ cls := "WaterWorksModel", name := "planned", desc := "(II)I" } : Jvm.MethodName)) ∈ lw_all := lw_g (lw_at lw_m9 42 rfl) rfl
theorem q2031 : (Jvm.Cond.code ({ cls := "WaterWorksModel", name := "planned", desc := "(II)I" } : Jvm.MethodName) prog_26_method_50_code (3 : Nat) (Option.some Jvm.ClassFile.FieldType.int)) ∈ lw_all := lw_g (lw_at lw_m9 43 rfl) rfl
theorem q2033 : (Jvm.Cond.instanceMethod ({ cls := "WaterWorksModel", name := "alarm", desc := "(III)I" } : Jvm.MethodName)) ∈ lw_all := lw_g (lw_at lw_m9 45 rfl) rfl
theorem q2034 : (Jvm.Cond.selects "WaterWorksModel" ({ cls := "WaterWorksModel", name := "alarm", desc := "(III)I" } : Jvm.MethodName) ({ cls := "WaterWorksModel", name := "alarm", desc := "(III)I" } : Jvm.MethodName)) ∈ lw_all := lw_g (lw_at lw_m9 46 rfl) rfl
theorem q2035 : (Jvm.Cond.code ({ cls := "WaterWorksModel", name := "alarm", desc := "(III)I" } : Jvm.MethodName) prog_26_method_52_code (5 : Nat) (Option.some Jvm.ClassFile.FieldType.int)) ∈ lw_all := lw_g (lw_at lw_m9 47 rfl) rfl
theorem q2036 : (Jvm.Cond.methodLink "WaterWorksModel" (459 : Nat) ({ cls := "WaterWorksModel", name := "isGuard", desc := "(II)Z" } : Jvm.MethodName)) ∈ lw_all := lw_g (lw_at lw_m9 48 rfl) rfl
theorem q2037 : (Jvm.Cond.privateMethod ({ cls := "WaterWorksModel", name := "isGuard", desc := "(II)Z" } : Jvm.MethodName)) ∈ lw_tbl := lw_at lw_m9 49 rfl
theorem q2038 : (Jvm.Cond.instanceMethod ({ cls := "WaterWorksModel", name := "isGuard", desc := "(II)Z" } : Jvm.MethodName)) ∈ lw_all := lw_g (lw_at lw_m9 50 rfl) rfl
theorem q2039 : (Jvm.Cond.code ({ cls := "WaterWorksModel", name := "isGuard", desc := "(II)Z" } : Jvm.MethodName) prog_26_method_12_code (3 : Nat) (Option.some Jvm.ClassFile.FieldType.boolean)) ∈ lw_all := lw_g (lw_at lw_m9 51 rfl) rfl
theorem q2041 : (Jvm.Cond.instanceMethod ({ cls := "WaterWorksModel", name := "alarmed", desc := "(II)I" } : Jvm.MethodName)) ∈ lw_all := lw_g (lw_at lw_m9 53 rfl) rfl
theorem q2042 : (Jvm.Cond.selects "WaterWorksModel" ({ cls := "WaterWorksModel", name := "alarmed", desc := "(II)I" } : Jvm.MethodName) ({ cls := "WaterWorksModel", name := "alarmed", desc := "(II)I" } : Jvm.MethodName)) ∈ lw_all := lw_g (lw_at lw_m9 54 rfl) rfl
theorem q2043 : (Jvm.Cond.code ({ cls := "WaterWorksModel", name := "alarmed", desc := "(II)I" } : Jvm.MethodName) prog_26_method_53_code (3 : Nat) (Option.some Jvm.ClassFile.FieldType.int)) ∈ lw_all := lw_g (lw_at lw_m9 55 rfl) rfl
theorem q2045 : (Jvm.Cond.instanceMethod ({ cls := "WaterWorksModel", name := "second", desc := "(I)I" } : Jvm.MethodName)) ∈ lw_all := lw_g (lw_at lw_m9 57 rfl) rfl
theorem q2046 : (Jvm.Cond.selects "WaterWorksModel" ({ cls := "WaterWorksModel", name := "second", desc := "(I)I" } : Jvm.MethodName) ({ cls := "WaterWorksModel", name := "second", desc := "(I)I" } : Jvm.MethodName)) ∈ lw_all := lw_g (lw_at lw_m9 58 rfl) rfl
theorem q2047 : (Jvm.Cond.code ({ cls := "WaterWorksModel", name := "second", desc := "(I)I" } : Jvm.MethodName) prog_26_method_55_code (3 : Nat) (Option.some Jvm.ClassFile.FieldType.int)) ∈ lw_all := lw_g (lw_at lw_m9 59 rfl) rfl
theorem q2048 : (Jvm.Cond.methodLink "WaterWorksModel" (462 : Nat) ({ cls := "WaterWorksModel", name := "tick", desc := "()V" } : Jvm.MethodName)) ∈ lw_all := lw_g (lw_at lw_m9 60 rfl) rfl
theorem q2049 : (Jvm.Cond.privateMethod ({ cls := "WaterWorksModel", name := "tick", desc := "()V" } : Jvm.MethodName)) ∈ lw_tbl := lw_at lw_m9 61 rfl
theorem q2050 : (Jvm.Cond.instanceMethod ({ cls := "WaterWorksModel", name := "tick", desc := "()V" } : Jvm.MethodName)) ∈ lw_all := lw_g (lw_at lw_m9 62 rfl) rfl
theorem q2051 : (Jvm.Cond.code ({ cls := "WaterWorksModel", name := "tick", desc := "()V" } : Jvm.MethodName) prog_26_method_56_code (4 : Nat) (Option.none : Option Jvm.ClassFile.FieldType)) ∈ lw_all := lw_g (lw_at lw_m9 63 rfl) rfl
theorem q2052 : (Jvm.Cond.methodLink "WaterWorksModel" (465 : Nat) ({ cls := "WaterWorksModel", name := "tryEnds", desc := "(I)V" } : Jvm.MethodName)) ∈ lw_all := lw_g (lw_at lw_m9 64 rfl) rfl
theorem q2053 : (Jvm.Cond.privateMethod ({ cls := "WaterWorksModel", name := "tryEnds", desc := "(I)V" } : Jvm.MethodName)) ∈ lw_tbl := lw_at lw_m9 65 rfl
theorem q2054 : (Jvm.Cond.instanceMethod ({ cls := "WaterWorksModel", name := "tryEnds", desc := "(I)V" } : Jvm.MethodName)) ∈ lw_all := lw_g (lw_at lw_m9 66 rfl) rfl
theorem q2055 : (Jvm.Cond.code ({ cls := "WaterWorksModel", name := "tryEnds", desc := "(I)V" } : Jvm.MethodName) prog_26_method_42_code (8 : Nat) (Option.none : Option Jvm.ClassFile.FieldType)) ∈ lw_all := lw_g (lw_at lw_m9 67 rfl) rfl
theorem q2056 : (Jvm.Cond.methodLink "WaterWorksModel" (468 : Nat) ({ cls := "WaterWorksModel", name := "late", desc := "(I)V" } : Jvm.MethodName)) ∈ lw_all := lw_g (lw_at lw_m9 68 rfl) rfl
theorem q2057 : (Jvm.Cond.privateMethod ({ cls := "WaterWorksModel", name := "late", desc := "(I)V" } : Jvm.MethodName)) ∈ lw_tbl := lw_at lw_m9 69 rfl
theorem q2058 : (Jvm.Cond.instanceMethod ({ cls := "WaterWorksModel", name := "late", desc := "(I)V" } : Jvm.MethodName)) ∈ lw_all := lw_g (lw_at lw_m9 70 rfl) rfl
theorem q2059 : (Jvm.Cond.code ({ cls := "WaterWorksModel", name := "late", desc := "(I)V" } : Jvm.MethodName) prog_26_method_57_code (4 : Nat) (Option.none : Option Jvm.ClassFile.FieldType)) ∈ lw_all := lw_g (lw_at lw_m9 71 rfl) rfl
theorem q2060 : (Jvm.Cond.methodLink "WaterWorksModel" (471 : Nat) ({ cls := "WaterWorksModel", name := "planDue", desc := "(I)V" } : Jvm.MethodName)) ∈ lw_all := lw_g (lw_at lw_m9 72 rfl) rfl
theorem q2061 : (Jvm.Cond.privateMethod ({ cls := "WaterWorksModel", name := "planDue", desc := "(I)V" } : Jvm.MethodName)) ∈ lw_tbl := lw_at lw_m9 73 rfl
theorem q2062 : (Jvm.Cond.instanceMethod ({ cls := "WaterWorksModel", name := "planDue", desc := "(I)V" } : Jvm.MethodName)) ∈ lw_all := lw_g (lw_at lw_m9 74 rfl) rfl
theorem q2063 : (Jvm.Cond.code ({ cls := "WaterWorksModel", name := "planDue", desc := "(I)V" } : Jvm.MethodName) prog_26_method_51_code (3 : Nat) (Option.none : Option Jvm.ClassFile.FieldType)) ∈ lw_all := lw_g (lw_at lw_m9 75 rfl) rfl
theorem q2064 : (Jvm.Cond.methodLink "WaterWorksModel" (474 : Nat) ({ cls := "WaterWorksModel", name := "isSo", desc := "(I)Z" } : Jvm.MethodName)) ∈ lw_all := lw_g (lw_at lw_m9 76 rfl) rfl
theorem q2065 : (Jvm.Cond.privateMethod ({ cls := "WaterWorksModel", name := "isSo", desc := "(I)Z" } : Jvm.MethodName)) ∈ lw_tbl := lw_at lw_m9 77 rfl
theorem q2066 : (Jvm.Cond.instanceMethod ({ cls := "WaterWorksModel", name := "isSo", desc := "(I)Z" } : Jvm.MethodName)) ∈ lw_all := lw_g (lw_at lw_m9 78 rfl) rfl
theorem q2067 : (Jvm.Cond.code ({ cls := "WaterWorksModel", name := "isSo", desc := "(I)Z" } : Jvm.MethodName) prog_26_method_54_code (5 : Nat) (Option.some Jvm.ClassFile.FieldType.boolean)) ∈ lw_all := lw_g (lw_at lw_m9 79 rfl) rfl
theorem q2069 : (Jvm.Cond.instanceMethod ({ cls := "WaterWorksModel", name := "now", desc := "()I" } : Jvm.MethodName)) ∈ lw_all := lw_g (lw_at lw_m9 81 rfl) rfl
theorem q2070 : (Jvm.Cond.selects "WaterWorksModel" ({ cls := "WaterWorksModel", name := "now", desc := "()I" } : Jvm.MethodName) ({ cls := "WaterWorksModel", name := "now", desc := "()I" } : Jvm.MethodName)) ∈ lw_all := lw_g (lw_at lw_m9 82 rfl) rfl
theorem q2071 : (Jvm.Cond.code ({ cls := "WaterWorksModel", name := "now", desc := "()I" } : Jvm.MethodName) prog_26_method_58_code (1 : Nat) (Option.some Jvm.ClassFile.FieldType.int)) ∈ lw_all := lw_g (lw_at lw_m9 83 rfl) rfl
theorem q2073 : (Jvm.Cond.instanceMethod ({ cls := "WaterWorksModel", name := "outcome", desc := "(I)I" } : Jvm.MethodName)) ∈ lw_all := lw_g (lw_at lw_m9 85 rfl) rfl
theorem q2074 : (Jvm.Cond.selects "WaterWorksModel" ({ cls := "WaterWorksModel", name := "outcome", desc := "(I)I" } : Jvm.MethodName) ({ cls := "WaterWorksModel", name := "outcome", desc := "(I)I" } : Jvm.MethodName)) ∈ lw_all := lw_g (lw_at lw_m9 86 rfl) rfl
theorem q2075 : (Jvm.Cond.code ({ cls := "WaterWorksModel", name := "outcome", desc := "(I)I" } : Jvm.MethodName) prog_26_method_59_code (2 : Nat) (Option.some Jvm.ClassFile.FieldType.int)) ∈ lw_all := lw_g (lw_at lw_m9 87 rfl) rfl
theorem q2077 : (Jvm.Cond.instanceMethod ({ cls := "WaterWorksModel", name := "of", desc := "(II)I" } : Jvm.MethodName)) ∈ lw_all := lw_g (lw_at lw_m9 89 rfl) rfl
theorem q2078 : (Jvm.Cond.selects "WaterWorksModel" ({ cls := "WaterWorksModel", name := "of", desc := "(II)I" } : Jvm.MethodName) ({ cls := "WaterWorksModel", name := "of", desc := "(II)I" } : Jvm.MethodName)) ∈ lw_all := lw_g (lw_at lw_m9 90 rfl) rfl
theorem q2079 : (Jvm.Cond.code ({ cls := "WaterWorksModel", name := "of", desc := "(II)I" } : Jvm.MethodName) prog_26_method_60_code (3 : Nat) (Option.some Jvm.ClassFile.FieldType.int)) ∈ lw_all := lw_g (lw_at lw_m9 91 rfl) rfl
theorem q2081 : (Jvm.Cond.instanceMethod ({ cls := "WaterWorksModel", name := "call", desc := "(II)I" } : Jvm.MethodName)) ∈ lw_all := lw_g (lw_at lw_m9 93 rfl) rfl
theorem q2082 : (Jvm.Cond.selects "WaterWorksModel" ({ cls := "WaterWorksModel", name := "call", desc := "(II)I" } : Jvm.MethodName) ({ cls := "WaterWorksModel", name := "call", desc := "(II)I" } : Jvm.MethodName)) ∈ lw_all := lw_g (lw_at lw_m9 94 rfl) rfl
theorem q2083 : (Jvm.Cond.code ({ cls := "WaterWorksModel", name := "call", desc := "(II)I" } : Jvm.MethodName) prog_26_method_61_code (3 : Nat) (Option.some Jvm.ClassFile.FieldType.int)) ∈ lw_all := lw_g (lw_at lw_m9 95 rfl) rfl
theorem q2085 : (Jvm.Cond.instanceMethod ({ cls := "WaterWorksModel", name := "fuse", desc := "(II)I" } : Jvm.MethodName)) ∈ lw_all := lw_g (lw_at lw_m9 97 rfl) rfl
theorem q2086 : (Jvm.Cond.selects "WaterWorksModel" ({ cls := "WaterWorksModel", name := "fuse", desc := "(II)I" } : Jvm.MethodName) ({ cls := "WaterWorksModel", name := "fuse", desc := "(II)I" } : Jvm.MethodName)) ∈ lw_all := lw_g (lw_at lw_m9 98 rfl) rfl
theorem q2087 : (Jvm.Cond.code ({ cls := "WaterWorksModel", name := "fuse", desc := "(II)I" } : Jvm.MethodName) prog_26_method_62_code (3 : Nat) (Option.some Jvm.ClassFile.FieldType.int)) ∈ lw_all := lw_g (lw_at lw_m9 99 rfl) rfl
theorem q2089 : (Jvm.Cond.instanceMethod ({ cls := "WaterWorksModel", name := "bulkhead", desc := "(II)I" } : Jvm.MethodName)) ∈ lw_all := lw_g (lw_at lw_m9 101 rfl) rfl
theorem q2090 : (Jvm.Cond.selects "WaterWorksModel" ({ cls := "WaterWorksModel", name := "bulkhead", desc := "(II)I" } : Jvm.MethodName) ({ cls := "WaterWorksModel", name := "bulkhead", desc := "(II)I" } : Jvm.MethodName)) ∈ lw_all := lw_g (lw_at lw_m9 102 rfl) rfl
theorem q2091 : (Jvm.Cond.code ({ cls := "WaterWorksModel", name := "bulkhead", desc := "(II)I" } : Jvm.MethodName) prog_26_method_63_code (3 : Nat) (Option.some Jvm.ClassFile.FieldType.int)) ∈ lw_all := lw_g (lw_at lw_m9 103 rfl) rfl
theorem q2093 : (Jvm.Cond.instanceMethod ({ cls := "WaterWorksModel", name := "waiting", desc := "(II)I" } : Jvm.MethodName)) ∈ lw_all := lw_g (lw_at lw_m9 105 rfl) rfl
theorem q2094 : (Jvm.Cond.selects "WaterWorksModel" ({ cls := "WaterWorksModel", name := "waiting", desc := "(II)I" } : Jvm.MethodName) ({ cls := "WaterWorksModel", name := "waiting", desc := "(II)I" } : Jvm.MethodName)) ∈ lw_all := lw_g (lw_at lw_m9 106 rfl) rfl
theorem q2095 : (Jvm.Cond.code ({ cls := "WaterWorksModel", name := "waiting", desc := "(II)I" } : Jvm.MethodName) prog_26_method_64_code (3 : Nat) (Option.some Jvm.ClassFile.FieldType.int)) ∈ lw_all := lw_g (lw_at lw_m9 107 rfl) rfl
theorem q2097 : (Jvm.Cond.instanceMethod ({ cls := "WaterWorksModel", name := "tokens", desc := "(I)I" } : Jvm.MethodName)) ∈ lw_all := lw_g (lw_at lw_m9 109 rfl) rfl
theorem q2098 : (Jvm.Cond.selects "WaterWorksModel" ({ cls := "WaterWorksModel", name := "tokens", desc := "(I)I" } : Jvm.MethodName) ({ cls := "WaterWorksModel", name := "tokens", desc := "(I)I" } : Jvm.MethodName)) ∈ lw_all := lw_g (lw_at lw_m9 110 rfl) rfl
theorem q2099 : (Jvm.Cond.code ({ cls := "WaterWorksModel", name := "tokens", desc := "(I)I" } : Jvm.MethodName) prog_26_method_65_code (2 : Nat) (Option.some Jvm.ClassFile.FieldType.int)) ∈ lw_all := lw_g (lw_at lw_m9 111 rfl) rfl
theorem q2101 : (Jvm.Cond.instanceMethod ({ cls := "WaterWorksModel", name := "kept", desc := "(III)I" } : Jvm.MethodName)) ∈ lw_all := lw_g (lw_at lw_m9 113 rfl) rfl
theorem q2102 : (Jvm.Cond.selects "WaterWorksModel" ({ cls := "WaterWorksModel", name := "kept", desc := "(III)I" } : Jvm.MethodName) ({ cls := "WaterWorksModel", name := "kept", desc := "(III)I" } : Jvm.MethodName)) ∈ lw_all := lw_g (lw_at lw_m9 114 rfl) rfl
theorem q2103 : (Jvm.Cond.code ({ cls := "WaterWorksModel", name := "kept", desc := "(III)I" } : Jvm.MethodName) prog_26_method_66_code (4 : Nat) (Option.some Jvm.ClassFile.FieldType.int)) ∈ lw_all := lw_g (lw_at lw_m9 115 rfl) rfl
theorem q2105 : (Jvm.Cond.instanceMethod ({ cls := "WaterWorksModel", name := "joined", desc := "(II)I" } : Jvm.MethodName)) ∈ lw_all := lw_g (lw_at lw_m9 117 rfl) rfl
theorem q2106 : (Jvm.Cond.selects "WaterWorksModel" ({ cls := "WaterWorksModel", name := "joined", desc := "(II)I" } : Jvm.MethodName) ({ cls := "WaterWorksModel", name := "joined", desc := "(II)I" } : Jvm.MethodName)) ∈ lw_all := lw_g (lw_at lw_m9 118 rfl) rfl
theorem q2107 : (Jvm.Cond.code ({ cls := "WaterWorksModel", name := "joined", desc := "(II)I" } : Jvm.MethodName) prog_26_method_67_code (5 : Nat) (Option.some Jvm.ClassFile.FieldType.int)) ∈ lw_all := lw_g (lw_at lw_m9 119 rfl) rfl
theorem q2109 : (Jvm.Cond.instanceMethod ({ cls := "WaterWorksModel", name := "level", desc := "(I)I" } : Jvm.MethodName)) ∈ lw_all := lw_g (lw_at lw_m9 121 rfl) rfl
theorem q2110 : (Jvm.Cond.selects "WaterWorksModel" ({ cls := "WaterWorksModel", name := "level", desc := "(I)I" } : Jvm.MethodName) ({ cls := "WaterWorksModel", name := "level", desc := "(I)I" } : Jvm.MethodName)) ∈ lw_all := lw_g (lw_at lw_m9 122 rfl) rfl
theorem q2111 : (Jvm.Cond.code ({ cls := "WaterWorksModel", name := "level", desc := "(I)I" } : Jvm.MethodName) prog_26_method_68_code (2 : Nat) (Option.some Jvm.ClassFile.FieldType.int)) ∈ lw_all := lw_g (lw_at lw_m9 123 rfl) rfl
theorem q2113 : (Jvm.Cond.instanceMethod ({ cls := "WaterWorksModel", name := "effect", desc := "(II)I" } : Jvm.MethodName)) ∈ lw_all := lw_g (lw_at lw_m9 125 rfl) rfl
theorem q2114 : (Jvm.Cond.selects "WaterWorksModel" ({ cls := "WaterWorksModel", name := "effect", desc := "(II)I" } : Jvm.MethodName) ({ cls := "WaterWorksModel", name := "effect", desc := "(II)I" } : Jvm.MethodName)) ∈ lw_all := lw_g (lw_at lw_m9 126 rfl) rfl
theorem q2115 : (Jvm.Cond.code ({ cls := "WaterWorksModel", name := "effect", desc := "(II)I" } : Jvm.MethodName) prog_26_method_69_code (3 : Nat) (Option.some Jvm.ClassFile.FieldType.int)) ∈ lw_all := lw_g (lw_at lw_m9 127 rfl) rfl
theorem q2117 : (Jvm.Cond.instanceMethod ({ cls := "WaterWorksModel", name := "count", desc := "(I)I" } : Jvm.MethodName)) ∈ lw_all := lw_g (lw_at lw_m9 129 rfl) rfl
theorem q2118 : (Jvm.Cond.selects "WaterWorksModel" ({ cls := "WaterWorksModel", name := "count", desc := "(I)I" } : Jvm.MethodName) ({ cls := "WaterWorksModel", name := "count", desc := "(I)I" } : Jvm.MethodName)) ∈ lw_all := lw_g (lw_at lw_m9 130 rfl) rfl
theorem q2119 : (Jvm.Cond.code ({ cls := "WaterWorksModel", name := "count", desc := "(I)I" } : Jvm.MethodName) prog_26_method_70_code (4 : Nat) (Option.some Jvm.ClassFile.FieldType.int)) ∈ lw_all := lw_g (lw_at lw_m9 131 rfl) rfl
theorem q2137 : (Jvm.Cond.castable "WaterWorksModel" "java/lang/Object") ∈ lw_tbl := lw_at lw_m9 149 rfl
theorem in_X1 : ∀ w ∈ wsX10, w ∈ lw_all := lw_in wsX10 [1622, 1624, 1626, 1628, 1630, 1632, 1634, 1636, 1638, 1640, 1642, 1644, 1646, 1648, 1650, 1652, 1654, 1656, 1658, 1660, 1662, 1664, 1666, 1668, 1670, 1672, 1674, 1676, 1678, 1680, 1682, 1684, 1686, 1688, 1690, 1692, 1694, 1696, 1698, 1700, 1702, 1704, 1706, 1708, 1710, 1712, 1714, 1716, 1718, 1720, 1722, 1724, 1726, 1728, 1730, 1732, 1734, 1736, 1738, 1740, 1742, 1744, 1746, 1748, 1750, 1752, 1754, 1756, 1758, 1760, 1762, 1764, 1766, 1768, 1770, 1772, 1774, 1776, 1778, 1780, 1782, 1784, 1786, 1788, 1790, 1792, 1794, 1796, 1798, 1800, 1802, 1804, 1806, 1808, 1810, 1812, 1814, 1816, 1818, 1820, 1822, 1824, 1826, 1828, 1830, 1832, 1834, 1836, 1838, 1840] (by decide +kernel) (by decide +kernel)
/-! WaterWorks$Station -/
def RX2 : String := "WaterWorks$Station"
def TX2 : u_T := fun k => match k with
  | 0 => ("WaterWorks$Station", "capacity", "I", true)
  | 1 => ("WaterWorks$Station", "delay", "I", true)
  | _ => ("WaterWorks$Station", "level", "I", false)
def tyX2 : Nat → FieldType := fun k => match k with
  | 0 => .int
  | 1 => .int
  | _ => .int
abbrev wsX20 : List Cond := u_ws RX2 TX2 3
theorem nmX2 : ∀ a, a < 3 → ∀ b, b < 3 → a ≠ b → (TX2 a).2.1 ≠ (TX2 b).2.1 := by decide +kernel
theorem tyX2_ok : ∀ k, k < 3 → parseFieldDescriptor (TX2 k).2.2.1 = some (tyX2 k) := by decide +kernel
abbrev cX2_init : ByteArray := prog_21_method_1_code
def yX2_init : MethodName := ⟨RX2, "<init>", "(III)V"⟩
theorem q74 : (Jvm.Cond.initialized "WaterWorks$Station") ∈ lw_all := lw_g (lw_at lw_m1 6 rfl) rfl
theorem q206 : (Jvm.Cond.instantiable "WaterWorks$Station" (3 : Nat)) ∈ lw_all := lw_g (lw_at lw_m1 138 rfl) rfl
theorem q208 : (Jvm.Cond.instanceMethod ({ cls := "WaterWorks$Station", name := "<init>", desc := "(III)V" } : Jvm.MethodName)) ∈ lw_all := lw_g (lw_at lw_m1 140 rfl) rfl
theorem q209 : (Jvm.Cond.code ({ cls := "WaterWorks$Station", name := "<init>", desc := "(III)V" } : Jvm.MethodName) prog_21_method_1_code (4 : Nat) (Option.none : Option Jvm.ClassFile.FieldType)) ∈ lw_all := lw_g (lw_at lw_m1 141 rfl) rfl
theorem q210 : (Jvm.Cond.methodLink "WaterWorks$Station" (1 : Nat) ({ cls := "java/lang/Object", name := "<init>", desc := "()V" } : Jvm.MethodName)) ∈ lw_all := lw_g (lw_at lw_m1 142 rfl) rfl
theorem q211 : (Jvm.Cond.fieldLink "WaterWorks$Station" (13 : Nat) "WaterWorks$Station" "capacity" "I") ∈ lw_all := lw_g (lw_at lw_m1 143 rfl) rfl
theorem q213 : (Jvm.Cond.fieldLink "WaterWorks$Station" (16 : Nat) "WaterWorks$Station" "delay" "I") ∈ lw_all := lw_g (lw_at lw_m1 145 rfl) rfl
theorem q215 : (Jvm.Cond.fieldLink "WaterWorks$Station" (7 : Nat) "WaterWorks$Station" "level" "I") ∈ lw_all := lw_g (lw_at lw_m1 147 rfl) rfl
theorem q219 : (Jvm.Cond.laysFinal "WaterWorks$Station" "WaterWorks$Station" "capacity" "I") ∈ lw_all := lw_g (lw_at lw_m1 151 rfl) rfl
theorem q220 : (Jvm.Cond.soleField "WaterWorks$Station" "capacity") ∈ lw_all := lw_g (lw_at lw_m1 152 rfl) rfl
theorem q221 : (Jvm.Cond.laysFinal "WaterWorks$Station" "WaterWorks$Station" "delay" "I") ∈ lw_all := lw_g (lw_at lw_m1 153 rfl) rfl
theorem q222 : (Jvm.Cond.soleField "WaterWorks$Station" "delay") ∈ lw_all := lw_g (lw_at lw_m1 154 rfl) rfl
theorem q223 : (Jvm.Cond.lays "WaterWorks$Station" "WaterWorks$Station" "level" "I") ∈ lw_all := lw_g (lw_at lw_m1 155 rfl) rfl
theorem q224 : (Jvm.Cond.soleField "WaterWorks$Station" "level") ∈ lw_all := lw_g (lw_at lw_m1 156 rfl) rfl
theorem q225 : (Jvm.Cond.superclass "WaterWorks$Station" "java/lang/Object") ∈ lw_all := lw_g (lw_at lw_m1 157 rfl) rfl
theorem q276 : (Jvm.Cond.selects "WaterWorks$Station" ({ cls := "java/lang/Object", name := "getClass", desc := "()Ljava/lang/Class;" } : Jvm.MethodName) ({ cls := "java/lang/Object", name := "getClass", desc := "()Ljava/lang/Class;" } : Jvm.MethodName)) ∈ lw_all := lw_g (lw_at lw_m1 208 rfl) rfl
theorem q1004 : (Jvm.Cond.selects "WaterWorks$Station" ({ cls := "java/lang/Object", name := "equals", desc := "(Ljava/lang/Object;)Z" } : Jvm.MethodName) ({ cls := "java/lang/Object", name := "equals", desc := "(Ljava/lang/Object;)Z" } : Jvm.MethodName)) ∈ lw_all := lw_g (lw_at lw_m4 216 rfl) rfl
theorem q2138 : (Jvm.Cond.castable "WaterWorks$Station" "java/lang/Object") ∈ lw_tbl := lw_at lw_m9 150 rfl
theorem in_X2 : ∀ w ∈ wsX20, w ∈ lw_all := lw_in wsX20 [219, 221, 223] (by decide +kernel) (by decide +kernel)
/-! WaterWorks$Plan -/
def RX3 : String := "WaterWorks$Plan"
def TX3 : u_T := fun k => match k with
  | 0 => ("WaterWorks$Plan", "station", "I", true)
  | 1 => ("WaterWorks$Plan", "act", "I", true)
  | 2 => ("WaterWorks$Plan", "a", "I", true)
  | 3 => ("WaterWorks$Plan", "b", "I", true)
  | _ => ("WaterWorks$Plan", "what", "I", true)
def tyX3 : Nat → FieldType := fun k => match k with
  | 0 => .int
  | 1 => .int
  | 2 => .int
  | 3 => .int
  | _ => .int
abbrev wsX30 : List Cond := u_ws RX3 TX3 5
theorem nmX3 : ∀ a, a < 5 → ∀ b, b < 5 → a ≠ b → (TX3 a).2.1 ≠ (TX3 b).2.1 := by decide +kernel
theorem tyX3_ok : ∀ k, k < 5 → parseFieldDescriptor (TX3 k).2.2.1 = some (tyX3 k) := by decide +kernel
abbrev cX3_init : ByteArray := prog_19_method_1_code
def yX3_init : MethodName := ⟨RX3, "<init>", "(IIIII)V"⟩
abbrev cX3_fits : ByteArray := prog_19_method_2_code
def yX3_fits : MethodName := ⟨RX3, "fits", "(III)Z"⟩
theorem q79 : (Jvm.Cond.initialized "WaterWorks$Plan") ∈ lw_all := lw_g (lw_at lw_m1 11 rfl) rfl
theorem q274 : (Jvm.Cond.selects "WaterWorks$Plan" ({ cls := "java/lang/Object", name := "getClass", desc := "()Ljava/lang/Class;" } : Jvm.MethodName) ({ cls := "java/lang/Object", name := "getClass", desc := "()Ljava/lang/Class;" } : Jvm.MethodName)) ∈ lw_all := lw_g (lw_at lw_m1 206 rfl) rfl
theorem q302 : (Jvm.Cond.instantiable "WaterWorks$Plan" (5 : Nat)) ∈ lw_all := lw_g (lw_at lw_m1 234 rfl) rfl
theorem q304 : (Jvm.Cond.instanceMethod ({ cls := "WaterWorks$Plan", name := "<init>", desc := "(IIIII)V" } : Jvm.MethodName)) ∈ lw_all := lw_g (lw_at lw_m1 236 rfl) rfl
theorem q305 : (Jvm.Cond.code ({ cls := "WaterWorks$Plan", name := "<init>", desc := "(IIIII)V" } : Jvm.MethodName) prog_19_method_1_code (6 : Nat) (Option.none : Option Jvm.ClassFile.FieldType)) ∈ lw_all := lw_g (lw_at lw_m1 237 rfl) rfl
theorem q306 : (Jvm.Cond.methodLink "WaterWorks$Plan" (1 : Nat) ({ cls := "java/lang/Object", name := "<init>", desc := "()V" } : Jvm.MethodName)) ∈ lw_all := lw_g (lw_at lw_m1 238 rfl) rfl
theorem q307 : (Jvm.Cond.fieldLink "WaterWorks$Plan" (7 : Nat) "WaterWorks$Plan" "station" "I") ∈ lw_all := lw_g (lw_at lw_m1 239 rfl) rfl
theorem q309 : (Jvm.Cond.fieldLink "WaterWorks$Plan" (13 : Nat) "WaterWorks$Plan" "act" "I") ∈ lw_all := lw_g (lw_at lw_m2 1 rfl) rfl
theorem q311 : (Jvm.Cond.fieldLink "WaterWorks$Plan" (16 : Nat) "WaterWorks$Plan" "a" "I") ∈ lw_all := lw_g (lw_at lw_m2 3 rfl) rfl
theorem q313 : (Jvm.Cond.fieldLink "WaterWorks$Plan" (19 : Nat) "WaterWorks$Plan" "b" "I") ∈ lw_all := lw_g (lw_at lw_m2 5 rfl) rfl
theorem q315 : (Jvm.Cond.fieldLink "WaterWorks$Plan" (22 : Nat) "WaterWorks$Plan" "what" "I") ∈ lw_all := lw_g (lw_at lw_m2 7 rfl) rfl
theorem q317 : (Jvm.Cond.laysFinal "WaterWorks$Plan" "WaterWorks$Plan" "station" "I") ∈ lw_all := lw_g (lw_at lw_m2 9 rfl) rfl
theorem q318 : (Jvm.Cond.soleField "WaterWorks$Plan" "station") ∈ lw_all := lw_g (lw_at lw_m2 10 rfl) rfl
theorem q319 : (Jvm.Cond.laysFinal "WaterWorks$Plan" "WaterWorks$Plan" "act" "I") ∈ lw_all := lw_g (lw_at lw_m2 11 rfl) rfl
theorem q320 : (Jvm.Cond.soleField "WaterWorks$Plan" "act") ∈ lw_all := lw_g (lw_at lw_m2 12 rfl) rfl
theorem q321 : (Jvm.Cond.laysFinal "WaterWorks$Plan" "WaterWorks$Plan" "a" "I") ∈ lw_all := lw_g (lw_at lw_m2 13 rfl) rfl
theorem q322 : (Jvm.Cond.soleField "WaterWorks$Plan" "a") ∈ lw_all := lw_g (lw_at lw_m2 14 rfl) rfl
theorem q323 : (Jvm.Cond.laysFinal "WaterWorks$Plan" "WaterWorks$Plan" "b" "I") ∈ lw_all := lw_g (lw_at lw_m2 15 rfl) rfl
theorem q324 : (Jvm.Cond.soleField "WaterWorks$Plan" "b") ∈ lw_all := lw_g (lw_at lw_m2 16 rfl) rfl
theorem q325 : (Jvm.Cond.laysFinal "WaterWorks$Plan" "WaterWorks$Plan" "what" "I") ∈ lw_all := lw_g (lw_at lw_m2 17 rfl) rfl
theorem q326 : (Jvm.Cond.soleField "WaterWorks$Plan" "what") ∈ lw_all := lw_g (lw_at lw_m2 18 rfl) rfl
theorem q327 : (Jvm.Cond.superclass "WaterWorks$Plan" "java/lang/Object") ∈ lw_all := lw_g (lw_at lw_m2 19 rfl) rfl
theorem q825 : (Jvm.Cond.instanceMethod ({ cls := "WaterWorks$Plan", name := "fits", desc := "(III)Z" } : Jvm.MethodName)) ∈ lw_all := lw_g (lw_at lw_m4 37 rfl) rfl
theorem q826 : (Jvm.Cond.selects "WaterWorks$Plan" ({ cls := "WaterWorks$Plan", name := "fits", desc := "(III)Z" } : Jvm.MethodName) ({ cls := "WaterWorks$Plan", name := "fits", desc := "(III)Z" } : Jvm.MethodName)) ∈ lw_all := lw_g (lw_at lw_m4 38 rfl) rfl
theorem q827 : (Jvm.Cond.code ({ cls := "WaterWorks$Plan", name := "fits", desc := "(III)Z" } : Jvm.MethodName) prog_19_method_2_code (4 : Nat) (Option.some Jvm.ClassFile.FieldType.boolean)) ∈ lw_all := lw_g (lw_at lw_m4 39 rfl) rfl
theorem q828 : (Jvm.Cond.methodLinkNest "WaterWorks$Plan" (25 : Nat) ({ cls := "WaterWorks", name := "in", desc := "(III)Z" } : Jvm.MethodName) "WaterWorks") ∈ lw_tbl := lw_at lw_m4 40 rfl
theorem q1002 : (Jvm.Cond.selects "WaterWorks$Plan" ({ cls := "java/lang/Object", name := "equals", desc := "(Ljava/lang/Object;)Z" } : Jvm.MethodName) ({ cls := "java/lang/Object", name := "equals", desc := "(Ljava/lang/Object;)Z" } : Jvm.MethodName)) ∈ lw_all := lw_g (lw_at lw_m4 214 rfl) rfl
theorem q2139 : (Jvm.Cond.castable "WaterWorks$Plan" "java/lang/Object") ∈ lw_tbl := lw_at lw_m9 151 rfl
theorem in_X3 : ∀ w ∈ wsX30, w ∈ lw_all := lw_in wsX30 [317, 319, 321, 323, 325] (by decide +kernel) (by decide +kernel)
/-! WaterWorks$Guard -/
def RX4 : String := "WaterWorks$Guard"
abbrev cX4_init : ByteArray := prog_12_method_1_code
def yX4_init : MethodName := ⟨RX4, "<init>", "(LWaterWorks;I[II)V"⟩
abbrev cX4_refuses : ByteArray := prog_12_method_7_code
def yX4_refuses : MethodName := ⟨RX4, "refuses", "(LWaterWorks$Call;I)V"⟩
abbrev cX4_names : ByteArray := prog_12_method_8_code
def yX4_names : MethodName := ⟨RX4, "names", "(LWaterWorks$Call;)Z"⟩
abbrev cX4_takenBack : ByteArray := prog_12_method_4_code
def yX4_takenBack : MethodName := ⟨RX4, "takenBack", "(LWaterWorks$Call;)V"⟩
abbrev cX4_told : ByteArray := prog_12_method_3_code
def yX4_told : MethodName := ⟨RX4, "told", "(LWaterWorks$Call;LWaterWorks$Call;)V"⟩
abbrev cX4_begins : ByteArray := prog_12_method_2_code
def yX4_begins : MethodName := ⟨RX4, "begins", "(LWaterWorks$Call;)V"⟩
abbrev cX4_newSecond : ByteArray := prog_12_method_5_code
def yX4_newSecond : MethodName := ⟨RX4, "newSecond", "()V"⟩
abbrev cX4_due : ByteArray := prog_12_method_6_code
def yX4_due : MethodName := ⟨RX4, "due", "(LWaterWorks$Call;)V"⟩
theorem q80 : (Jvm.Cond.initialized "WaterWorks$Guard") ∈ lw_all := lw_g (lw_at lw_m1 12 rfl) rfl
theorem q151 : (Jvm.Cond.fieldLinkNest "WaterWorks$Guard" (15 : Nat) "WaterWorks" "guards" "Ljava/util/ArrayList;" "WaterWorks") ∈ lw_tbl := lw_at lw_m1 83 rfl
theorem q356 : (Jvm.Cond.instanceMethod ({ cls := "WaterWorks$Guard", name := "<init>", desc := "(LWaterWorks;I[II)V" } : Jvm.MethodName)) ∈ lw_all := lw_g (lw_at lw_m2 48 rfl) rfl
theorem q357 : (Jvm.Cond.code ({ cls := "WaterWorks$Guard", name := "<init>", desc := "(LWaterWorks;I[II)V" } : Jvm.MethodName) prog_12_method_1_code (5 : Nat) (Option.none : Option Jvm.ClassFile.FieldType)) ∈ lw_all := lw_g (lw_at lw_m2 49 rfl) rfl
theorem q358 : (Jvm.Cond.methodLink "WaterWorks$Guard" (9 : Nat) ({ cls := "java/lang/Object", name := "<init>", desc := "()V" } : Jvm.MethodName)) ∈ lw_all := lw_g (lw_at lw_m2 50 rfl) rfl
theorem q359 : (Jvm.Cond.methodLink "WaterWorks$Guard" (19 : Nat) ({ cls := "java/util/ArrayList", name := "size", desc := "()I" } : Jvm.MethodName)) ∈ lw_all := lw_g (lw_at lw_m2 51 rfl) rfl
theorem q369 : (Jvm.Cond.fieldLink "WaterWorks$Guard" (25 : Nat) "WaterWorks$Guard" "number" "I") ∈ lw_all := lw_g (lw_at lw_m2 61 rfl) rfl
theorem q373 : (Jvm.Cond.fieldLink "WaterWorks$Guard" (29 : Nat) "WaterWorks$Guard" "sort" "I") ∈ lw_all := lw_g (lw_at lw_m2 65 rfl) rfl
theorem q377 : (Jvm.Cond.fieldLink "WaterWorks$Guard" (32 : Nat) "WaterWorks$Guard" "a" "I") ∈ lw_all := lw_g (lw_at lw_m2 69 rfl) rfl
theorem q392 : (Jvm.Cond.fieldLink "WaterWorks$Guard" (35 : Nat) "WaterWorks$Guard" "b" "I") ∈ lw_all := lw_g (lw_at lw_m2 84 rfl) rfl
theorem q405 : (Jvm.Cond.fieldLink "WaterWorks$Guard" (38 : Nat) "WaterWorks$Guard" "c" "I") ∈ lw_all := lw_g (lw_at lw_m2 97 rfl) rfl
theorem q408 : (Jvm.Cond.fieldLink "WaterWorks$Guard" (41 : Nat) "WaterWorks$Guard" "named" "I") ∈ lw_all := lw_g (lw_at lw_m2 100 rfl) rfl
theorem q409 : (Jvm.Cond.fieldLink "WaterWorks$Guard" (3 : Nat) "WaterWorks$Guard" "this$0" "LWaterWorks;") ∈ lw_all := lw_g (lw_at lw_m2 101 rfl) rfl
theorem q421 : (Jvm.Cond.soleField "WaterWorks$Guard" "number") ∈ lw_all := lw_g (lw_at lw_m2 113 rfl) rfl
theorem q423 : (Jvm.Cond.soleField "WaterWorks$Guard" "sort") ∈ lw_all := lw_g (lw_at lw_m2 115 rfl) rfl
theorem q425 : (Jvm.Cond.soleField "WaterWorks$Guard" "a") ∈ lw_all := lw_g (lw_at lw_m2 117 rfl) rfl
theorem q427 : (Jvm.Cond.soleField "WaterWorks$Guard" "b") ∈ lw_all := lw_g (lw_at lw_m2 119 rfl) rfl
theorem q429 : (Jvm.Cond.soleField "WaterWorks$Guard" "c") ∈ lw_all := lw_g (lw_at lw_m2 121 rfl) rfl
theorem q431 : (Jvm.Cond.soleField "WaterWorks$Guard" "named") ∈ lw_all := lw_g (lw_at lw_m2 123 rfl) rfl
theorem q433 : (Jvm.Cond.soleField "WaterWorks$Guard" "this$0") ∈ lw_all := lw_g (lw_at lw_m2 125 rfl) rfl
theorem q766 : (Jvm.Cond.fieldLinkNest "WaterWorks$Guard" (60 : Nat) "WaterWorks$Call" "how" "I" "WaterWorks") ∈ lw_tbl := lw_at lw_m3 218 rfl
theorem q787 : (Jvm.Cond.fieldLinkNest "WaterWorks$Guard" (65 : Nat) "WaterWorks$Call" "failure" "LWaterWorks$Failure;" "WaterWorks") ∈ lw_tbl := lw_at lw_m3 239 rfl
theorem q830 : (Jvm.Cond.instanceMethod ({ cls := "WaterWorks$Guard", name := "begins", desc := "(LWaterWorks$Call;)V" } : Jvm.MethodName)) ∈ lw_all := lw_g (lw_at lw_m4 42 rfl) rfl
theorem q831 : (Jvm.Cond.sameMethod "WaterWorks$Guard" "WaterWorks$Guard" "begins" "(LWaterWorks$Call;)V") ∈ lw_all := lw_g (lw_at lw_m4 43 rfl) rfl
theorem q847 : (Jvm.Cond.declares ({ cls := "WaterWorks$Guard", name := "refuses", desc := "(LWaterWorks$Call;I)V" } : Jvm.MethodName)) ∈ lw_tbl := lw_at lw_m4 59 rfl
theorem q849 : (Jvm.Cond.instanceMethod ({ cls := "WaterWorks$Guard", name := "refuses", desc := "(LWaterWorks$Call;I)V" } : Jvm.MethodName)) ∈ lw_all := lw_g (lw_at lw_m4 61 rfl) rfl
theorem q850 : (Jvm.Cond.code ({ cls := "WaterWorks$Guard", name := "refuses", desc := "(LWaterWorks$Call;I)V" } : Jvm.MethodName) prog_12_method_7_code (3 : Nat) (Option.none : Option Jvm.ClassFile.FieldType)) ∈ lw_all := lw_g (lw_at lw_m4 62 rfl) rfl
theorem q851 : (Jvm.Cond.methodLinkNest "WaterWorks$Guard" (52 : Nat) ({ cls := "WaterWorks", name := "failed", desc := "(III)LWaterWorks$Failure;" } : Jvm.MethodName) "WaterWorks") ∈ lw_tbl := lw_at lw_m4 63 rfl
theorem q863 : (Jvm.Cond.fieldLinkNest "WaterWorks$Guard" (69 : Nat) "WaterWorks$Failure" "kind" "I" "WaterWorks") ∈ lw_tbl := lw_at lw_m4 75 rfl
theorem q891 : (Jvm.Cond.methodLinkNest "WaterWorks$Guard" (56 : Nat) ({ cls := "WaterWorks", name := "fails", desc := "(LWaterWorks$Call;LWaterWorks$Failure;)V" } : Jvm.MethodName) "WaterWorks") ∈ lw_tbl := lw_at lw_m4 103 rfl
theorem q900 : (Jvm.Cond.instanceMethod ({ cls := "WaterWorks$Guard", name := "told", desc := "(LWaterWorks$Call;LWaterWorks$Call;)V" } : Jvm.MethodName)) ∈ lw_all := lw_g (lw_at lw_m4 112 rfl) rfl
theorem q901 : (Jvm.Cond.sameMethod "WaterWorks$Guard" "WaterWorks$Guard" "told" "(LWaterWorks$Call;LWaterWorks$Call;)V") ∈ lw_all := lw_g (lw_at lw_m4 113 rfl) rfl
theorem q924 : (Jvm.Cond.declares ({ cls := "WaterWorks$Guard", name := "names", desc := "(LWaterWorks$Call;)Z" } : Jvm.MethodName)) ∈ lw_tbl := lw_at lw_m4 136 rfl
theorem q926 : (Jvm.Cond.instanceMethod ({ cls := "WaterWorks$Guard", name := "names", desc := "(LWaterWorks$Call;)Z" } : Jvm.MethodName)) ∈ lw_all := lw_g (lw_at lw_m4 138 rfl) rfl
theorem q927 : (Jvm.Cond.code ({ cls := "WaterWorks$Guard", name := "names", desc := "(LWaterWorks$Call;)Z" } : Jvm.MethodName) prog_12_method_8_code (2 : Nat) (Option.some Jvm.ClassFile.FieldType.boolean)) ∈ lw_all := lw_g (lw_at lw_m4 139 rfl) rfl
theorem q928 : (Jvm.Cond.methodLinkNest "WaterWorks$Guard" (74 : Nat) ({ cls := "WaterWorks", name := "isUnder", desc := "(II)Z" } : Jvm.MethodName) "WaterWorks") ∈ lw_tbl := lw_at lw_m4 140 rfl
theorem q973 : (Jvm.Cond.instanceMethod ({ cls := "WaterWorks$Guard", name := "takenBack", desc := "(LWaterWorks$Call;)V" } : Jvm.MethodName)) ∈ lw_all := lw_g (lw_at lw_m4 185 rfl) rfl
theorem q974 : (Jvm.Cond.sameMethod "WaterWorks$Guard" "WaterWorks$Guard" "takenBack" "(LWaterWorks$Call;)V") ∈ lw_all := lw_g (lw_at lw_m4 186 rfl) rfl
theorem q1035 : (Jvm.Cond.code ({ cls := "WaterWorks$Guard", name := "takenBack", desc := "(LWaterWorks$Call;)V" } : Jvm.MethodName) prog_12_method_4_code (2 : Nat) (Option.none : Option Jvm.ClassFile.FieldType)) ∈ lw_all := lw_g (lw_at lw_m5 7 rfl) rfl
theorem q1070 : (Jvm.Cond.code ({ cls := "WaterWorks$Guard", name := "told", desc := "(LWaterWorks$Call;LWaterWorks$Call;)V" } : Jvm.MethodName) prog_12_method_3_code (3 : Nat) (Option.none : Option Jvm.ClassFile.FieldType)) ∈ lw_all := lw_g (lw_at lw_m5 42 rfl) rfl
theorem q1071 : (Jvm.Cond.methodLinkNest "WaterWorks$Guard" (48 : Nat) ({ cls := "WaterWorks", name := "alike", desc := "(LWaterWorks$Call;LWaterWorks$Call;)V" } : Jvm.MethodName) "WaterWorks") ∈ lw_tbl := lw_at lw_m5 43 rfl
theorem q1114 : (Jvm.Cond.code ({ cls := "WaterWorks$Guard", name := "begins", desc := "(LWaterWorks$Call;)V" } : Jvm.MethodName) prog_12_method_2_code (2 : Nat) (Option.none : Option Jvm.ClassFile.FieldType)) ∈ lw_all := lw_g (lw_at lw_m5 86 rfl) rfl
theorem q1115 : (Jvm.Cond.methodLinkNest "WaterWorks$Guard" (44 : Nat) ({ cls := "WaterWorks", name := "goesIn", desc := "(LWaterWorks$Call;)V" } : Jvm.MethodName) "WaterWorks") ∈ lw_tbl := lw_at lw_m5 87 rfl
theorem q1134 : (Jvm.Cond.instanceMethod ({ cls := "WaterWorks$Guard", name := "newSecond", desc := "()V" } : Jvm.MethodName)) ∈ lw_all := lw_g (lw_at lw_m5 106 rfl) rfl
theorem q1135 : (Jvm.Cond.sameMethod "WaterWorks$Guard" "WaterWorks$Guard" "newSecond" "()V") ∈ lw_all := lw_g (lw_at lw_m5 107 rfl) rfl
theorem q1149 : (Jvm.Cond.code ({ cls := "WaterWorks$Guard", name := "newSecond", desc := "()V" } : Jvm.MethodName) prog_12_method_5_code (1 : Nat) (Option.none : Option Jvm.ClassFile.FieldType)) ∈ lw_all := lw_g (lw_at lw_m5 121 rfl) rfl
theorem q1198 : (Jvm.Cond.instanceMethod ({ cls := "WaterWorks$Guard", name := "due", desc := "(LWaterWorks$Call;)V" } : Jvm.MethodName)) ∈ lw_all := lw_g (lw_at lw_m5 170 rfl) rfl
theorem q1199 : (Jvm.Cond.sameMethod "WaterWorks$Guard" "WaterWorks$Guard" "due" "(LWaterWorks$Call;)V") ∈ lw_all := lw_g (lw_at lw_m5 171 rfl) rfl
theorem q1224 : (Jvm.Cond.code ({ cls := "WaterWorks$Guard", name := "due", desc := "(LWaterWorks$Call;)V" } : Jvm.MethodName) prog_12_method_6_code (2 : Nat) (Option.none : Option Jvm.ClassFile.FieldType)) ∈ lw_all := lw_g (lw_at lw_m5 196 rfl) rfl
theorem q2134 : (Jvm.Cond.castable "WaterWorks$Guard" "java/lang/Object") ∈ lw_tbl := lw_at lw_m9 146 rfl
/-! WaterWorks$Fuse -/
def RX5 : String := "WaterWorks$Fuse"
def TX5 : u_T := fun k => match k with
  | 0 => ("WaterWorks$Guard", "number", "I", true)
  | 1 => ("WaterWorks$Guard", "sort", "I", true)
  | 2 => ("WaterWorks$Guard", "a", "I", true)
  | 3 => ("WaterWorks$Guard", "b", "I", true)
  | 4 => ("WaterWorks$Guard", "c", "I", true)
  | 5 => ("WaterWorks$Guard", "named", "I", true)
  | 6 => ("WaterWorks$Guard", "this$0", "LWaterWorks;", true)
  | 7 => ("WaterWorks$Fuse", "state", "I", false)
  | 8 => ("WaterWorks$Fuse", "count", "I", false)
  | 9 => ("WaterWorks$Fuse", "until", "I", false)
  | 10 => ("WaterWorks$Fuse", "trial", "LWaterWorks$Call;", false)
  | _ => ("WaterWorks$Fuse", "this$0", "LWaterWorks;", true)
def tyX5 : Nat → FieldType := fun k => match k with
  | 0 => .int
  | 1 => .int
  | 2 => .int
  | 3 => .int
  | 4 => .int
  | 5 => .int
  | 6 => .object "WaterWorks"
  | 7 => .int
  | 8 => .int
  | 9 => .int
  | 10 => .object "WaterWorks$Call"
  | _ => .object "WaterWorks"
abbrev wsX50 : List Cond := u_ws RX5 TX5 12
-- two fields of one name: no nmX5
theorem tyX5_ok : ∀ k, k < 12 → parseFieldDescriptor (TX5 k).2.2.1 = some (tyX5 k) := by decide +kernel
abbrev cX5_init : ByteArray := prog_10_method_1_code
def yX5_init : MethodName := ⟨RX5, "<init>", "(LWaterWorks;[II)V"⟩
abbrev cX5_told : ByteArray := prog_10_method_5_code
def yX5_told : MethodName := ⟨RX5, "told", "(LWaterWorks$Call;LWaterWorks$Call;)V"⟩
abbrev cX5_opens : ByteArray := prog_10_method_3_code
def yX5_opens : MethodName := ⟨RX5, "opens", "(I)V"⟩
abbrev cX5_closes : ByteArray := prog_10_method_4_code
def yX5_closes : MethodName := ⟨RX5, "closes", "()V"⟩
abbrev cX5_takenBack : ByteArray := prog_10_method_6_code
def yX5_takenBack : MethodName := ⟨RX5, "takenBack", "(LWaterWorks$Call;)V"⟩
abbrev cX5_begins : ByteArray := prog_10_method_2_code
def yX5_begins : MethodName := ⟨RX5, "begins", "(LWaterWorks$Call;)V"⟩
theorem q81 : (Jvm.Cond.initialized "WaterWorks$Fuse") ∈ lw_all := lw_g (lw_at lw_m1 13 rfl) rfl
theorem q140 : (Jvm.Cond.fieldLinkNest "WaterWorks$Fuse" (19 : Nat) "WaterWorks" "time" "I" "WaterWorks") ∈ lw_tbl := lw_at lw_m1 72 rfl
theorem q266 : (Jvm.Cond.selects "WaterWorks$Fuse" ({ cls := "java/lang/Object", name := "getClass", desc := "()Ljava/lang/Class;" } : Jvm.MethodName) ({ cls := "java/lang/Object", name := "getClass", desc := "()Ljava/lang/Class;" } : Jvm.MethodName)) ∈ lw_all := lw_g (lw_at lw_m1 198 rfl) rfl
theorem q351 : (Jvm.Cond.instantiable "WaterWorks$Fuse" (12 : Nat)) ∈ lw_all := lw_g (lw_at lw_m2 43 rfl) rfl
theorem q353 : (Jvm.Cond.instanceMethod ({ cls := "WaterWorks$Fuse", name := "<init>", desc := "(LWaterWorks;[II)V" } : Jvm.MethodName)) ∈ lw_all := lw_g (lw_at lw_m2 45 rfl) rfl
theorem q354 : (Jvm.Cond.code ({ cls := "WaterWorks$Fuse", name := "<init>", desc := "(LWaterWorks;[II)V" } : Jvm.MethodName) prog_10_method_1_code (4 : Nat) (Option.none : Option Jvm.ClassFile.FieldType)) ∈ lw_all := lw_g (lw_at lw_m2 46 rfl) rfl
theorem q355 : (Jvm.Cond.methodLink "WaterWorks$Fuse" (9 : Nat) ({ cls := "WaterWorks$Guard", name := "<init>", desc := "(LWaterWorks;I[II)V" } : Jvm.MethodName)) ∈ lw_all := lw_g (lw_at lw_m2 47 rfl) rfl
theorem q360 : (Jvm.Cond.fieldLink "WaterWorks$Fuse" (15 : Nat) "WaterWorks$Fuse" "state" "I") ∈ lw_all := lw_g (lw_at lw_m2 52 rfl) rfl
theorem q363 : (Jvm.Cond.fieldLink "WaterWorks$Fuse" (37 : Nat) "WaterWorks$Fuse" "count" "I") ∈ lw_all := lw_g (lw_at lw_m2 55 rfl) rfl
theorem q365 : (Jvm.Cond.fieldLink "WaterWorks$Fuse" (22 : Nat) "WaterWorks$Fuse" "until" "I") ∈ lw_all := lw_g (lw_at lw_m2 57 rfl) rfl
theorem q367 : (Jvm.Cond.fieldLink "WaterWorks$Fuse" (25 : Nat) "WaterWorks$Fuse" "trial" "LWaterWorks$Call;") ∈ lw_all := lw_g (lw_at lw_m2 59 rfl) rfl
theorem q368 : (Jvm.Cond.fieldLink "WaterWorks$Fuse" (3 : Nat) "WaterWorks$Fuse" "this$0" "LWaterWorks;") ∈ lw_all := lw_g (lw_at lw_m2 60 rfl) rfl
theorem q390 : (Jvm.Cond.fieldLink "WaterWorks$Fuse" (55 : Nat) "WaterWorks$Fuse" "a" "I") ∈ lw_all := lw_g (lw_at lw_m2 82 rfl) rfl
theorem q391 : (Jvm.Cond.sameField "WaterWorks$Fuse" "WaterWorks$Guard" "a" "I") ∈ lw_all := lw_g (lw_at lw_m2 83 rfl) rfl
theorem q403 : (Jvm.Cond.fieldLink "WaterWorks$Fuse" (44 : Nat) "WaterWorks$Fuse" "b" "I") ∈ lw_all := lw_g (lw_at lw_m2 95 rfl) rfl
theorem q404 : (Jvm.Cond.sameField "WaterWorks$Fuse" "WaterWorks$Guard" "b" "I") ∈ lw_all := lw_g (lw_at lw_m2 96 rfl) rfl
theorem q410 : (Jvm.Cond.lays "WaterWorks$Fuse" "WaterWorks$Fuse" "state" "I") ∈ lw_all := lw_g (lw_at lw_m2 102 rfl) rfl
theorem q411 : (Jvm.Cond.soleField "WaterWorks$Fuse" "state") ∈ lw_all := lw_g (lw_at lw_m2 103 rfl) rfl
theorem q412 : (Jvm.Cond.lays "WaterWorks$Fuse" "WaterWorks$Fuse" "count" "I") ∈ lw_all := lw_g (lw_at lw_m2 104 rfl) rfl
theorem q413 : (Jvm.Cond.soleField "WaterWorks$Fuse" "count") ∈ lw_all := lw_g (lw_at lw_m2 105 rfl) rfl
theorem q414 : (Jvm.Cond.lays "WaterWorks$Fuse" "WaterWorks$Fuse" "until" "I") ∈ lw_all := lw_g (lw_at lw_m2 106 rfl) rfl
theorem q415 : (Jvm.Cond.soleField "WaterWorks$Fuse" "until") ∈ lw_all := lw_g (lw_at lw_m2 107 rfl) rfl
theorem q416 : (Jvm.Cond.lays "WaterWorks$Fuse" "WaterWorks$Fuse" "trial" "LWaterWorks$Call;") ∈ lw_all := lw_g (lw_at lw_m2 108 rfl) rfl
theorem q417 : (Jvm.Cond.soleField "WaterWorks$Fuse" "trial") ∈ lw_all := lw_g (lw_at lw_m2 109 rfl) rfl
theorem q418 : (Jvm.Cond.laysFinal "WaterWorks$Fuse" "WaterWorks$Fuse" "this$0" "LWaterWorks;") ∈ lw_all := lw_g (lw_at lw_m2 110 rfl) rfl
theorem q419 : (Jvm.Cond.soleField "WaterWorks$Fuse" "this$0") ∈ lw_all := lw_g (lw_at lw_m2 111 rfl) rfl
theorem q420 : (Jvm.Cond.laysFinal "WaterWorks$Fuse" "WaterWorks$Guard" "number" "I") ∈ lw_all := lw_g (lw_at lw_m2 112 rfl) rfl
theorem q422 : (Jvm.Cond.laysFinal "WaterWorks$Fuse" "WaterWorks$Guard" "sort" "I") ∈ lw_all := lw_g (lw_at lw_m2 114 rfl) rfl
theorem q424 : (Jvm.Cond.laysFinal "WaterWorks$Fuse" "WaterWorks$Guard" "a" "I") ∈ lw_all := lw_g (lw_at lw_m2 116 rfl) rfl
theorem q426 : (Jvm.Cond.laysFinal "WaterWorks$Fuse" "WaterWorks$Guard" "b" "I") ∈ lw_all := lw_g (lw_at lw_m2 118 rfl) rfl
theorem q428 : (Jvm.Cond.laysFinal "WaterWorks$Fuse" "WaterWorks$Guard" "c" "I") ∈ lw_all := lw_g (lw_at lw_m2 120 rfl) rfl
theorem q430 : (Jvm.Cond.laysFinal "WaterWorks$Fuse" "WaterWorks$Guard" "named" "I") ∈ lw_all := lw_g (lw_at lw_m2 122 rfl) rfl
theorem q432 : (Jvm.Cond.laysFinal "WaterWorks$Fuse" "WaterWorks$Guard" "this$0" "LWaterWorks;") ∈ lw_all := lw_g (lw_at lw_m2 124 rfl) rfl
theorem q434 : (Jvm.Cond.superclass "WaterWorks$Fuse" "WaterWorks$Guard") ∈ lw_all := lw_g (lw_at lw_m2 126 rfl) rfl
theorem q934 : (Jvm.Cond.selects "WaterWorks$Fuse" ({ cls := "WaterWorks$Guard", name := "told", desc := "(LWaterWorks$Call;LWaterWorks$Call;)V" } : Jvm.MethodName) ({ cls := "WaterWorks$Fuse", name := "told", desc := "(LWaterWorks$Call;LWaterWorks$Call;)V" } : Jvm.MethodName)) ∈ lw_all := lw_g (lw_at lw_m4 146 rfl) rfl
theorem q935 : (Jvm.Cond.instanceMethod ({ cls := "WaterWorks$Fuse", name := "told", desc := "(LWaterWorks$Call;LWaterWorks$Call;)V" } : Jvm.MethodName)) ∈ lw_all := lw_g (lw_at lw_m4 147 rfl) rfl
theorem q936 : (Jvm.Cond.code ({ cls := "WaterWorks$Fuse", name := "told", desc := "(LWaterWorks$Call;LWaterWorks$Call;)V" } : Jvm.MethodName) prog_10_method_5_code (3 : Nat) (Option.none : Option Jvm.ClassFile.FieldType)) ∈ lw_all := lw_g (lw_at lw_m4 148 rfl) rfl
theorem q937 : (Jvm.Cond.methodLink "WaterWorks$Fuse" (40 : Nat) ({ cls := "WaterWorks$Fuse", name := "names", desc := "(LWaterWorks$Call;)Z" } : Jvm.MethodName)) ∈ lw_all := lw_g (lw_at lw_m4 149 rfl) rfl
theorem q938 : (Jvm.Cond.sameMethod "WaterWorks$Fuse" "WaterWorks$Guard" "names" "(LWaterWorks$Call;)Z") ∈ lw_all := lw_g (lw_at lw_m4 150 rfl) rfl
theorem q939 : (Jvm.Cond.selects "WaterWorks$Fuse" ({ cls := "WaterWorks$Fuse", name := "names", desc := "(LWaterWorks$Call;)Z" } : Jvm.MethodName) ({ cls := "WaterWorks$Guard", name := "names", desc := "(LWaterWorks$Call;)Z" } : Jvm.MethodName)) ∈ lw_all := lw_g (lw_at lw_m4 151 rfl) rfl
theorem q940 : (Jvm.Cond.methodLink "WaterWorks$Fuse" (47 : Nat) ({ cls := "WaterWorks$Fuse", name := "opens", desc := "(I)V" } : Jvm.MethodName)) ∈ lw_all := lw_g (lw_at lw_m4 152 rfl) rfl
theorem q941 : (Jvm.Cond.privateMethod ({ cls := "WaterWorks$Fuse", name := "opens", desc := "(I)V" } : Jvm.MethodName)) ∈ lw_tbl := lw_at lw_m4 153 rfl
theorem q942 : (Jvm.Cond.instanceMethod ({ cls := "WaterWorks$Fuse", name := "opens", desc := "(I)V" } : Jvm.MethodName)) ∈ lw_all := lw_g (lw_at lw_m4 154 rfl) rfl
theorem q943 : (Jvm.Cond.code ({ cls := "WaterWorks$Fuse", name := "opens", desc := "(I)V" } : Jvm.MethodName) prog_10_method_3_code (2 : Nat) (Option.none : Option Jvm.ClassFile.FieldType)) ∈ lw_all := lw_g (lw_at lw_m4 155 rfl) rfl
theorem q944 : (Jvm.Cond.methodLink "WaterWorks$Fuse" (51 : Nat) ({ cls := "WaterWorks$Fuse", name := "closes", desc := "()V" } : Jvm.MethodName)) ∈ lw_all := lw_g (lw_at lw_m4 156 rfl) rfl
theorem q945 : (Jvm.Cond.privateMethod ({ cls := "WaterWorks$Fuse", name := "closes", desc := "()V" } : Jvm.MethodName)) ∈ lw_tbl := lw_at lw_m4 157 rfl
theorem q946 : (Jvm.Cond.instanceMethod ({ cls := "WaterWorks$Fuse", name := "closes", desc := "()V" } : Jvm.MethodName)) ∈ lw_all := lw_g (lw_at lw_m4 158 rfl) rfl
theorem q947 : (Jvm.Cond.code ({ cls := "WaterWorks$Fuse", name := "closes", desc := "()V" } : Jvm.MethodName) prog_10_method_4_code (1 : Nat) (Option.none : Option Jvm.ClassFile.FieldType)) ∈ lw_all := lw_g (lw_at lw_m4 159 rfl) rfl
theorem q948 : (Jvm.Cond.methodLinkNest "WaterWorks$Fuse" (58 : Nat) ({ cls := "WaterWorks", name := "alike", desc := "(LWaterWorks$Call;LWaterWorks$Call;)V" } : Jvm.MethodName) "WaterWorks") ∈ lw_tbl := lw_at lw_m4 160 rfl
theorem q994 : (Jvm.Cond.selects "WaterWorks$Fuse" ({ cls := "java/lang/Object", name := "equals", desc := "(Ljava/lang/Object;)Z" } : Jvm.MethodName) ({ cls := "java/lang/Object", name := "equals", desc := "(Ljava/lang/Object;)Z" } : Jvm.MethodName)) ∈ lw_all := lw_g (lw_at lw_m4 206 rfl) rfl
theorem q1017 : (Jvm.Cond.selects "WaterWorks$Fuse" ({ cls := "WaterWorks$Guard", name := "takenBack", desc := "(LWaterWorks$Call;)V" } : Jvm.MethodName) ({ cls := "WaterWorks$Fuse", name := "takenBack", desc := "(LWaterWorks$Call;)V" } : Jvm.MethodName)) ∈ lw_all := lw_g (lw_at lw_m4 229 rfl) rfl
theorem q1018 : (Jvm.Cond.instanceMethod ({ cls := "WaterWorks$Fuse", name := "takenBack", desc := "(LWaterWorks$Call;)V" } : Jvm.MethodName)) ∈ lw_all := lw_g (lw_at lw_m4 230 rfl) rfl
theorem q1019 : (Jvm.Cond.code ({ cls := "WaterWorks$Fuse", name := "takenBack", desc := "(LWaterWorks$Call;)V" } : Jvm.MethodName) prog_10_method_6_code (2 : Nat) (Option.none : Option Jvm.ClassFile.FieldType)) ∈ lw_all := lw_g (lw_at lw_m4 231 rfl) rfl
theorem q1077 : (Jvm.Cond.selects "WaterWorks$Fuse" ({ cls := "WaterWorks$Guard", name := "begins", desc := "(LWaterWorks$Call;)V" } : Jvm.MethodName) ({ cls := "WaterWorks$Fuse", name := "begins", desc := "(LWaterWorks$Call;)V" } : Jvm.MethodName)) ∈ lw_all := lw_g (lw_at lw_m5 49 rfl) rfl
theorem q1078 : (Jvm.Cond.instanceMethod ({ cls := "WaterWorks$Fuse", name := "begins", desc := "(LWaterWorks$Call;)V" } : Jvm.MethodName)) ∈ lw_all := lw_g (lw_at lw_m5 50 rfl) rfl
theorem q1079 : (Jvm.Cond.code ({ cls := "WaterWorks$Fuse", name := "begins", desc := "(LWaterWorks$Call;)V" } : Jvm.MethodName) prog_10_method_2_code (2 : Nat) (Option.none : Option Jvm.ClassFile.FieldType)) ∈ lw_all := lw_g (lw_at lw_m5 51 rfl) rfl
theorem q1080 : (Jvm.Cond.methodLinkNest "WaterWorks$Fuse" (29 : Nat) ({ cls := "WaterWorks", name := "goesIn", desc := "(LWaterWorks$Call;)V" } : Jvm.MethodName) "WaterWorks") ∈ lw_tbl := lw_at lw_m5 52 rfl
theorem q1081 : (Jvm.Cond.methodLink "WaterWorks$Fuse" (33 : Nat) ({ cls := "WaterWorks$Fuse", name := "refuses", desc := "(LWaterWorks$Call;I)V" } : Jvm.MethodName)) ∈ lw_all := lw_g (lw_at lw_m5 53 rfl) rfl
theorem q1082 : (Jvm.Cond.sameMethod "WaterWorks$Fuse" "WaterWorks$Guard" "refuses" "(LWaterWorks$Call;I)V") ∈ lw_all := lw_g (lw_at lw_m5 54 rfl) rfl
theorem q1083 : (Jvm.Cond.selects "WaterWorks$Fuse" ({ cls := "WaterWorks$Fuse", name := "refuses", desc := "(LWaterWorks$Call;I)V" } : Jvm.MethodName) ({ cls := "WaterWorks$Guard", name := "refuses", desc := "(LWaterWorks$Call;I)V" } : Jvm.MethodName)) ∈ lw_all := lw_g (lw_at lw_m5 55 rfl) rfl
theorem q1139 : (Jvm.Cond.selects "WaterWorks$Fuse" ({ cls := "WaterWorks$Guard", name := "newSecond", desc := "()V" } : Jvm.MethodName) ({ cls := "WaterWorks$Guard", name := "newSecond", desc := "()V" } : Jvm.MethodName)) ∈ lw_all := lw_g (lw_at lw_m5 111 rfl) rfl
theorem q1212 : (Jvm.Cond.selects "WaterWorks$Fuse" ({ cls := "WaterWorks$Guard", name := "due", desc := "(LWaterWorks$Call;)V" } : Jvm.MethodName) ({ cls := "WaterWorks$Guard", name := "due", desc := "(LWaterWorks$Call;)V" } : Jvm.MethodName)) ∈ lw_all := lw_g (lw_at lw_m5 184 rfl) rfl
theorem q2123 : (Jvm.Cond.castable "WaterWorks$Fuse" "WaterWorks$Guard") ∈ lw_tbl := lw_at lw_m9 135 rfl
theorem q2140 : (Jvm.Cond.castable "WaterWorks$Fuse" "java/lang/Object") ∈ lw_tbl := lw_at lw_m9 152 rfl
theorem in_X5 : ∀ w ∈ wsX50, w ∈ lw_all := lw_in wsX50 [420, 422, 424, 426, 428, 430, 432, 410, 412, 414, 416, 418] (by decide +kernel) (by decide +kernel)
/-! WaterWorks$Bulkhead -/
def RX6 : String := "WaterWorks$Bulkhead"
def TX6 : u_T := fun k => match k with
  | 0 => ("WaterWorks$Guard", "number", "I", true)
  | 1 => ("WaterWorks$Guard", "sort", "I", true)
  | 2 => ("WaterWorks$Guard", "a", "I", true)
  | 3 => ("WaterWorks$Guard", "b", "I", true)
  | 4 => ("WaterWorks$Guard", "c", "I", true)
  | 5 => ("WaterWorks$Guard", "named", "I", true)
  | 6 => ("WaterWorks$Guard", "this$0", "LWaterWorks;", true)
  | 7 => ("WaterWorks$Bulkhead", "waiting", "Ljava/util/ArrayList;", true)
  | 8 => ("WaterWorks$Bulkhead", "work", "I", false)
  | 9 => ("WaterWorks$Bulkhead", "refused", "I", false)
  | _ => ("WaterWorks$Bulkhead", "this$0", "LWaterWorks;", true)
def tyX6 : Nat → FieldType := fun k => match k with
  | 0 => .int
  | 1 => .int
  | 2 => .int
  | 3 => .int
  | 4 => .int
  | 5 => .int
  | 6 => .object "WaterWorks"
  | 7 => .object "java/util/ArrayList"
  | 8 => .int
  | 9 => .int
  | _ => .object "WaterWorks"
abbrev wsX60 : List Cond := u_ws RX6 TX6 11
-- two fields of one name: no nmX6
theorem tyX6_ok : ∀ k, k < 11 → parseFieldDescriptor (TX6 k).2.2.1 = some (tyX6 k) := by decide +kernel
abbrev cX6_init : ByteArray := prog_4_method_1_code
def yX6_init : MethodName := ⟨RX6, "<init>", "(LWaterWorks;[I)V"⟩
abbrev cX6_begins : ByteArray := prog_4_method_3_code
def yX6_begins : MethodName := ⟨RX6, "begins", "(LWaterWorks$Call;)V"⟩
abbrev cX6_works : ByteArray := prog_4_method_2_code
def yX6_works : MethodName := ⟨RX6, "works", "(LWaterWorks$Call;)V"⟩
abbrev cX6_told : ByteArray := prog_4_method_4_code
def yX6_told : MethodName := ⟨RX6, "told", "(LWaterWorks$Call;LWaterWorks$Call;)V"⟩
abbrev cX6_takenBack : ByteArray := prog_4_method_5_code
def yX6_takenBack : MethodName := ⟨RX6, "takenBack", "(LWaterWorks$Call;)V"⟩
abbrev cX6_letsIn : ByteArray := prog_4_method_6_code
def yX6_letsIn : MethodName := ⟨RX6, "letsIn", "()V"⟩
theorem q82 : (Jvm.Cond.initialized "WaterWorks$Bulkhead") ∈ lw_all := lw_g (lw_at lw_m1 14 rfl) rfl
theorem q260 : (Jvm.Cond.selects "WaterWorks$Bulkhead" ({ cls := "java/lang/Object", name := "getClass", desc := "()Ljava/lang/Class;" } : Jvm.MethodName) ({ cls := "java/lang/Object", name := "getClass", desc := "()Ljava/lang/Class;" } : Jvm.MethodName)) ∈ lw_all := lw_g (lw_at lw_m1 192 rfl) rfl
theorem q388 : (Jvm.Cond.fieldLink "WaterWorks$Bulkhead" (32 : Nat) "WaterWorks$Bulkhead" "a" "I") ∈ lw_all := lw_g (lw_at lw_m2 80 rfl) rfl
theorem q389 : (Jvm.Cond.sameField "WaterWorks$Bulkhead" "WaterWorks$Guard" "a" "I") ∈ lw_all := lw_g (lw_at lw_m2 81 rfl) rfl
theorem q401 : (Jvm.Cond.fieldLink "WaterWorks$Bulkhead" (42 : Nat) "WaterWorks$Bulkhead" "b" "I") ∈ lw_all := lw_g (lw_at lw_m2 93 rfl) rfl
theorem q402 : (Jvm.Cond.sameField "WaterWorks$Bulkhead" "WaterWorks$Guard" "b" "I") ∈ lw_all := lw_g (lw_at lw_m2 94 rfl) rfl
theorem q437 : (Jvm.Cond.instantiable "WaterWorks$Bulkhead" (11 : Nat)) ∈ lw_all := lw_g (lw_at lw_m2 129 rfl) rfl
theorem q439 : (Jvm.Cond.instanceMethod ({ cls := "WaterWorks$Bulkhead", name := "<init>", desc := "(LWaterWorks;[I)V" } : Jvm.MethodName)) ∈ lw_all := lw_g (lw_at lw_m2 131 rfl) rfl
theorem q440 : (Jvm.Cond.code ({ cls := "WaterWorks$Bulkhead", name := "<init>", desc := "(LWaterWorks;[I)V" } : Jvm.MethodName) prog_4_method_1_code (3 : Nat) (Option.none : Option Jvm.ClassFile.FieldType)) ∈ lw_all := lw_g (lw_at lw_m2 132 rfl) rfl
theorem q441 : (Jvm.Cond.methodLink "WaterWorks$Bulkhead" (9 : Nat) ({ cls := "WaterWorks$Guard", name := "<init>", desc := "(LWaterWorks;I[II)V" } : Jvm.MethodName)) ∈ lw_all := lw_g (lw_at lw_m2 133 rfl) rfl
theorem q442 : (Jvm.Cond.classLink "WaterWorks$Bulkhead" (15 : Nat) "java/util/ArrayList") ∈ lw_all := lw_g (lw_at lw_m2 134 rfl) rfl
theorem q443 : (Jvm.Cond.methodLink "WaterWorks$Bulkhead" (17 : Nat) ({ cls := "java/util/ArrayList", name := "<init>", desc := "()V" } : Jvm.MethodName)) ∈ lw_all := lw_g (lw_at lw_m2 135 rfl) rfl
theorem q444 : (Jvm.Cond.fieldLink "WaterWorks$Bulkhead" (20 : Nat) "WaterWorks$Bulkhead" "waiting" "Ljava/util/ArrayList;") ∈ lw_all := lw_g (lw_at lw_m2 136 rfl) rfl
theorem q447 : (Jvm.Cond.fieldLink "WaterWorks$Bulkhead" (24 : Nat) "WaterWorks$Bulkhead" "work" "I") ∈ lw_all := lw_g (lw_at lw_m2 139 rfl) rfl
theorem q449 : (Jvm.Cond.fieldLink "WaterWorks$Bulkhead" (54 : Nat) "WaterWorks$Bulkhead" "refused" "I") ∈ lw_all := lw_g (lw_at lw_m2 141 rfl) rfl
theorem q451 : (Jvm.Cond.fieldLink "WaterWorks$Bulkhead" (3 : Nat) "WaterWorks$Bulkhead" "this$0" "LWaterWorks;") ∈ lw_all := lw_g (lw_at lw_m2 143 rfl) rfl
theorem q452 : (Jvm.Cond.laysFinal "WaterWorks$Bulkhead" "WaterWorks$Bulkhead" "waiting" "Ljava/util/ArrayList;") ∈ lw_all := lw_g (lw_at lw_m2 144 rfl) rfl
theorem q453 : (Jvm.Cond.soleField "WaterWorks$Bulkhead" "waiting") ∈ lw_all := lw_g (lw_at lw_m2 145 rfl) rfl
theorem q454 : (Jvm.Cond.lays "WaterWorks$Bulkhead" "WaterWorks$Bulkhead" "work" "I") ∈ lw_all := lw_g (lw_at lw_m2 146 rfl) rfl
theorem q455 : (Jvm.Cond.soleField "WaterWorks$Bulkhead" "work") ∈ lw_all := lw_g (lw_at lw_m2 147 rfl) rfl
theorem q456 : (Jvm.Cond.lays "WaterWorks$Bulkhead" "WaterWorks$Bulkhead" "refused" "I") ∈ lw_all := lw_g (lw_at lw_m2 148 rfl) rfl
theorem q457 : (Jvm.Cond.soleField "WaterWorks$Bulkhead" "refused") ∈ lw_all := lw_g (lw_at lw_m2 149 rfl) rfl
theorem q458 : (Jvm.Cond.laysFinal "WaterWorks$Bulkhead" "WaterWorks$Bulkhead" "this$0" "LWaterWorks;") ∈ lw_all := lw_g (lw_at lw_m2 150 rfl) rfl
theorem q459 : (Jvm.Cond.soleField "WaterWorks$Bulkhead" "this$0") ∈ lw_all := lw_g (lw_at lw_m2 151 rfl) rfl
theorem q460 : (Jvm.Cond.laysFinal "WaterWorks$Bulkhead" "WaterWorks$Guard" "number" "I") ∈ lw_all := lw_g (lw_at lw_m2 152 rfl) rfl
theorem q461 : (Jvm.Cond.laysFinal "WaterWorks$Bulkhead" "WaterWorks$Guard" "sort" "I") ∈ lw_all := lw_g (lw_at lw_m2 153 rfl) rfl
theorem q462 : (Jvm.Cond.laysFinal "WaterWorks$Bulkhead" "WaterWorks$Guard" "a" "I") ∈ lw_all := lw_g (lw_at lw_m2 154 rfl) rfl
theorem q463 : (Jvm.Cond.laysFinal "WaterWorks$Bulkhead" "WaterWorks$Guard" "b" "I") ∈ lw_all := lw_g (lw_at lw_m2 155 rfl) rfl
theorem q464 : (Jvm.Cond.laysFinal "WaterWorks$Bulkhead" "WaterWorks$Guard" "c" "I") ∈ lw_all := lw_g (lw_at lw_m2 156 rfl) rfl
theorem q465 : (Jvm.Cond.laysFinal "WaterWorks$Bulkhead" "WaterWorks$Guard" "named" "I") ∈ lw_all := lw_g (lw_at lw_m2 157 rfl) rfl
theorem q466 : (Jvm.Cond.laysFinal "WaterWorks$Bulkhead" "WaterWorks$Guard" "this$0" "LWaterWorks;") ∈ lw_all := lw_g (lw_at lw_m2 158 rfl) rfl
theorem q467 : (Jvm.Cond.superclass "WaterWorks$Bulkhead" "WaterWorks$Guard") ∈ lw_all := lw_g (lw_at lw_m2 159 rfl) rfl
theorem q776 : (Jvm.Cond.fieldLinkNest "WaterWorks$Bulkhead" (45 : Nat) "WaterWorks$Call" "state" "I" "WaterWorks") ∈ lw_tbl := lw_at lw_m3 228 rfl
theorem q832 : (Jvm.Cond.selects "WaterWorks$Bulkhead" ({ cls := "WaterWorks$Guard", name := "begins", desc := "(LWaterWorks$Call;)V" } : Jvm.MethodName) ({ cls := "WaterWorks$Bulkhead", name := "begins", desc := "(LWaterWorks$Call;)V" } : Jvm.MethodName)) ∈ lw_all := lw_g (lw_at lw_m4 44 rfl) rfl
theorem q833 : (Jvm.Cond.instanceMethod ({ cls := "WaterWorks$Bulkhead", name := "begins", desc := "(LWaterWorks$Call;)V" } : Jvm.MethodName)) ∈ lw_all := lw_g (lw_at lw_m4 45 rfl) rfl
theorem q834 : (Jvm.Cond.code ({ cls := "WaterWorks$Bulkhead", name := "begins", desc := "(LWaterWorks$Call;)V" } : Jvm.MethodName) prog_4_method_3_code (2 : Nat) (Option.none : Option Jvm.ClassFile.FieldType)) ∈ lw_all := lw_g (lw_at lw_m4 46 rfl) rfl
theorem q835 : (Jvm.Cond.methodLink "WaterWorks$Bulkhead" (35 : Nat) ({ cls := "java/util/ArrayList", name := "size", desc := "()I" } : Jvm.MethodName)) ∈ lw_all := lw_g (lw_at lw_m4 47 rfl) rfl
theorem q836 : (Jvm.Cond.methodLink "WaterWorks$Bulkhead" (39 : Nat) ({ cls := "WaterWorks$Bulkhead", name := "works", desc := "(LWaterWorks$Call;)V" } : Jvm.MethodName)) ∈ lw_all := lw_g (lw_at lw_m4 48 rfl) rfl
theorem q837 : (Jvm.Cond.privateMethod ({ cls := "WaterWorks$Bulkhead", name := "works", desc := "(LWaterWorks$Call;)V" } : Jvm.MethodName)) ∈ lw_tbl := lw_at lw_m4 49 rfl
theorem q838 : (Jvm.Cond.instanceMethod ({ cls := "WaterWorks$Bulkhead", name := "works", desc := "(LWaterWorks$Call;)V" } : Jvm.MethodName)) ∈ lw_all := lw_g (lw_at lw_m4 50 rfl) rfl
theorem q839 : (Jvm.Cond.code ({ cls := "WaterWorks$Bulkhead", name := "works", desc := "(LWaterWorks$Call;)V" } : Jvm.MethodName) prog_4_method_2_code (2 : Nat) (Option.none : Option Jvm.ClassFile.FieldType)) ∈ lw_all := lw_g (lw_at lw_m4 51 rfl) rfl
theorem q840 : (Jvm.Cond.methodLinkNest "WaterWorks$Bulkhead" (28 : Nat) ({ cls := "WaterWorks", name := "goesIn", desc := "(LWaterWorks$Call;)V" } : Jvm.MethodName) "WaterWorks") ∈ lw_tbl := lw_at lw_m4 52 rfl
theorem q844 : (Jvm.Cond.methodLink "WaterWorks$Bulkhead" (50 : Nat) ({ cls := "java/util/ArrayList", name := "add", desc := "(Ljava/lang/Object;)Z" } : Jvm.MethodName)) ∈ lw_all := lw_g (lw_at lw_m4 56 rfl) rfl
theorem q845 : (Jvm.Cond.methodLink "WaterWorks$Bulkhead" (57 : Nat) ({ cls := "WaterWorks$Bulkhead", name := "refuses", desc := "(LWaterWorks$Call;I)V" } : Jvm.MethodName)) ∈ lw_all := lw_g (lw_at lw_m4 57 rfl) rfl
theorem q846 : (Jvm.Cond.sameMethod "WaterWorks$Bulkhead" "WaterWorks$Guard" "refuses" "(LWaterWorks$Call;I)V") ∈ lw_all := lw_g (lw_at lw_m4 58 rfl) rfl
theorem q848 : (Jvm.Cond.selects "WaterWorks$Bulkhead" ({ cls := "WaterWorks$Bulkhead", name := "refuses", desc := "(LWaterWorks$Call;I)V" } : Jvm.MethodName) ({ cls := "WaterWorks$Guard", name := "refuses", desc := "(LWaterWorks$Call;I)V" } : Jvm.MethodName)) ∈ lw_all := lw_g (lw_at lw_m4 60 rfl) rfl
theorem q902 : (Jvm.Cond.selects "WaterWorks$Bulkhead" ({ cls := "WaterWorks$Guard", name := "told", desc := "(LWaterWorks$Call;LWaterWorks$Call;)V" } : Jvm.MethodName) ({ cls := "WaterWorks$Bulkhead", name := "told", desc := "(LWaterWorks$Call;LWaterWorks$Call;)V" } : Jvm.MethodName)) ∈ lw_all := lw_g (lw_at lw_m4 114 rfl) rfl
theorem q903 : (Jvm.Cond.instanceMethod ({ cls := "WaterWorks$Bulkhead", name := "told", desc := "(LWaterWorks$Call;LWaterWorks$Call;)V" } : Jvm.MethodName)) ∈ lw_all := lw_g (lw_at lw_m4 115 rfl) rfl
theorem q904 : (Jvm.Cond.code ({ cls := "WaterWorks$Bulkhead", name := "told", desc := "(LWaterWorks$Call;LWaterWorks$Call;)V" } : Jvm.MethodName) prog_4_method_4_code (3 : Nat) (Option.none : Option Jvm.ClassFile.FieldType)) ∈ lw_all := lw_g (lw_at lw_m4 116 rfl) rfl
theorem q905 : (Jvm.Cond.methodLinkNest "WaterWorks$Bulkhead" (61 : Nat) ({ cls := "WaterWorks", name := "alike", desc := "(LWaterWorks$Call;LWaterWorks$Call;)V" } : Jvm.MethodName) "WaterWorks") ∈ lw_tbl := lw_at lw_m4 117 rfl
theorem q975 : (Jvm.Cond.selects "WaterWorks$Bulkhead" ({ cls := "WaterWorks$Guard", name := "takenBack", desc := "(LWaterWorks$Call;)V" } : Jvm.MethodName) ({ cls := "WaterWorks$Bulkhead", name := "takenBack", desc := "(LWaterWorks$Call;)V" } : Jvm.MethodName)) ∈ lw_all := lw_g (lw_at lw_m4 187 rfl) rfl
theorem q976 : (Jvm.Cond.instanceMethod ({ cls := "WaterWorks$Bulkhead", name := "takenBack", desc := "(LWaterWorks$Call;)V" } : Jvm.MethodName)) ∈ lw_all := lw_g (lw_at lw_m4 188 rfl) rfl
theorem q977 : (Jvm.Cond.code ({ cls := "WaterWorks$Bulkhead", name := "takenBack", desc := "(LWaterWorks$Call;)V" } : Jvm.MethodName) prog_4_method_5_code (2 : Nat) (Option.none : Option Jvm.ClassFile.FieldType)) ∈ lw_all := lw_g (lw_at lw_m4 189 rfl) rfl
theorem q978 : (Jvm.Cond.methodLink "WaterWorks$Bulkhead" (65 : Nat) ({ cls := "java/util/ArrayList", name := "remove", desc := "(Ljava/lang/Object;)Z" } : Jvm.MethodName)) ∈ lw_all := lw_g (lw_at lw_m4 190 rfl) rfl
theorem q988 : (Jvm.Cond.selects "WaterWorks$Bulkhead" ({ cls := "java/lang/Object", name := "equals", desc := "(Ljava/lang/Object;)Z" } : Jvm.MethodName) ({ cls := "java/lang/Object", name := "equals", desc := "(Ljava/lang/Object;)Z" } : Jvm.MethodName)) ∈ lw_all := lw_g (lw_at lw_m4 200 rfl) rfl
theorem q1136 : (Jvm.Cond.selects "WaterWorks$Bulkhead" ({ cls := "WaterWorks$Guard", name := "newSecond", desc := "()V" } : Jvm.MethodName) ({ cls := "WaterWorks$Guard", name := "newSecond", desc := "()V" } : Jvm.MethodName)) ∈ lw_all := lw_g (lw_at lw_m5 108 rfl) rfl
theorem q1200 : (Jvm.Cond.selects "WaterWorks$Bulkhead" ({ cls := "WaterWorks$Guard", name := "due", desc := "(LWaterWorks$Call;)V" } : Jvm.MethodName) ({ cls := "WaterWorks$Guard", name := "due", desc := "(LWaterWorks$Call;)V" } : Jvm.MethodName)) ∈ lw_all := lw_g (lw_at lw_m5 172 rfl) rfl
theorem q1226 : (Jvm.Cond.instanceMethod ({ cls := "WaterWorks$Bulkhead", name := "letsIn", desc := "()V" } : Jvm.MethodName)) ∈ lw_all := lw_g (lw_at lw_m5 198 rfl) rfl
theorem q1227 : (Jvm.Cond.selects "WaterWorks$Bulkhead" ({ cls := "WaterWorks$Bulkhead", name := "letsIn", desc := "()V" } : Jvm.MethodName) ({ cls := "WaterWorks$Bulkhead", name := "letsIn", desc := "()V" } : Jvm.MethodName)) ∈ lw_all := lw_g (lw_at lw_m5 199 rfl) rfl
theorem q1228 : (Jvm.Cond.code ({ cls := "WaterWorks$Bulkhead", name := "letsIn", desc := "()V" } : Jvm.MethodName) prog_4_method_6_code (2 : Nat) (Option.none : Option Jvm.ClassFile.FieldType)) ∈ lw_all := lw_g (lw_at lw_m5 200 rfl) rfl
theorem q1229 : (Jvm.Cond.methodLink "WaterWorks$Bulkhead" (68 : Nat) ({ cls := "java/util/ArrayList", name := "remove", desc := "(I)Ljava/lang/Object;" } : Jvm.MethodName)) ∈ lw_all := lw_g (lw_at lw_m5 201 rfl) rfl
theorem q1233 : (Jvm.Cond.classLink "WaterWorks$Bulkhead" (46 : Nat) "WaterWorks$Call") ∈ lw_all := lw_g (lw_at lw_m5 205 rfl) rfl
theorem q2120 : (Jvm.Cond.castable "WaterWorks$Bulkhead" "WaterWorks$Guard") ∈ lw_tbl := lw_at lw_m9 132 rfl
theorem q2141 : (Jvm.Cond.castable "WaterWorks$Bulkhead" "java/lang/Object") ∈ lw_tbl := lw_at lw_m9 153 rfl
theorem in_X6 : ∀ w ∈ wsX60, w ∈ lw_all := lw_in wsX60 [460, 461, 462, 463, 464, 465, 466, 452, 454, 456, 458] (by decide +kernel) (by decide +kernel)
/-! WaterWorks$Limit -/
def RX7 : String := "WaterWorks$Limit"
def TX7 : u_T := fun k => match k with
  | 0 => ("WaterWorks$Guard", "number", "I", true)
  | 1 => ("WaterWorks$Guard", "sort", "I", true)
  | 2 => ("WaterWorks$Guard", "a", "I", true)
  | 3 => ("WaterWorks$Guard", "b", "I", true)
  | 4 => ("WaterWorks$Guard", "c", "I", true)
  | 5 => ("WaterWorks$Guard", "named", "I", true)
  | 6 => ("WaterWorks$Guard", "this$0", "LWaterWorks;", true)
  | 7 => ("WaterWorks$Limit", "tokens", "I", false)
  | _ => ("WaterWorks$Limit", "this$0", "LWaterWorks;", true)
def tyX7 : Nat → FieldType := fun k => match k with
  | 0 => .int
  | 1 => .int
  | 2 => .int
  | 3 => .int
  | 4 => .int
  | 5 => .int
  | 6 => .object "WaterWorks"
  | 7 => .int
  | _ => .object "WaterWorks"
abbrev wsX70 : List Cond := u_ws RX7 TX7 9
-- two fields of one name: no nmX7
theorem tyX7_ok : ∀ k, k < 9 → parseFieldDescriptor (TX7 k).2.2.1 = some (tyX7 k) := by decide +kernel
abbrev cX7_init : ByteArray := prog_16_method_1_code
def yX7_init : MethodName := ⟨RX7, "<init>", "(LWaterWorks;[I)V"⟩
abbrev cX7_begins : ByteArray := prog_16_method_2_code
def yX7_begins : MethodName := ⟨RX7, "begins", "(LWaterWorks$Call;)V"⟩
abbrev cX7_newSecond : ByteArray := prog_16_method_3_code
def yX7_newSecond : MethodName := ⟨RX7, "newSecond", "()V"⟩
theorem q83 : (Jvm.Cond.initialized "WaterWorks$Limit") ∈ lw_all := lw_g (lw_at lw_m1 15 rfl) rfl
theorem q271 : (Jvm.Cond.selects "WaterWorks$Limit" ({ cls := "java/lang/Object", name := "getClass", desc := "()Ljava/lang/Class;" } : Jvm.MethodName) ({ cls := "java/lang/Object", name := "getClass", desc := "()Ljava/lang/Class;" } : Jvm.MethodName)) ∈ lw_all := lw_g (lw_at lw_m1 203 rfl) rfl
theorem q375 : (Jvm.Cond.fieldLink "WaterWorks$Limit" (15 : Nat) "WaterWorks$Limit" "a" "I") ∈ lw_all := lw_g (lw_at lw_m2 67 rfl) rfl
theorem q376 : (Jvm.Cond.sameField "WaterWorks$Limit" "WaterWorks$Guard" "a" "I") ∈ lw_all := lw_g (lw_at lw_m2 68 rfl) rfl
theorem q399 : (Jvm.Cond.fieldLink "WaterWorks$Limit" (30 : Nat) "WaterWorks$Limit" "b" "I") ∈ lw_all := lw_g (lw_at lw_m2 91 rfl) rfl
theorem q400 : (Jvm.Cond.sameField "WaterWorks$Limit" "WaterWorks$Guard" "b" "I") ∈ lw_all := lw_g (lw_at lw_m2 92 rfl) rfl
theorem q469 : (Jvm.Cond.instantiable "WaterWorks$Limit" (9 : Nat)) ∈ lw_all := lw_g (lw_at lw_m2 161 rfl) rfl
theorem q471 : (Jvm.Cond.instanceMethod ({ cls := "WaterWorks$Limit", name := "<init>", desc := "(LWaterWorks;[I)V" } : Jvm.MethodName)) ∈ lw_all := lw_g (lw_at lw_m2 163 rfl) rfl
theorem q472 : (Jvm.Cond.code ({ cls := "WaterWorks$Limit", name := "<init>", desc := "(LWaterWorks;[I)V" } : Jvm.MethodName) prog_16_method_1_code (3 : Nat) (Option.none : Option Jvm.ClassFile.FieldType)) ∈ lw_all := lw_g (lw_at lw_m2 164 rfl) rfl
theorem q473 : (Jvm.Cond.methodLink "WaterWorks$Limit" (9 : Nat) ({ cls := "WaterWorks$Guard", name := "<init>", desc := "(LWaterWorks;I[II)V" } : Jvm.MethodName)) ∈ lw_all := lw_g (lw_at lw_m2 165 rfl) rfl
theorem q474 : (Jvm.Cond.fieldLink "WaterWorks$Limit" (19 : Nat) "WaterWorks$Limit" "tokens" "I") ∈ lw_all := lw_g (lw_at lw_m2 166 rfl) rfl
theorem q476 : (Jvm.Cond.fieldLink "WaterWorks$Limit" (3 : Nat) "WaterWorks$Limit" "this$0" "LWaterWorks;") ∈ lw_all := lw_g (lw_at lw_m2 168 rfl) rfl
theorem q477 : (Jvm.Cond.lays "WaterWorks$Limit" "WaterWorks$Limit" "tokens" "I") ∈ lw_all := lw_g (lw_at lw_m2 169 rfl) rfl
theorem q478 : (Jvm.Cond.soleField "WaterWorks$Limit" "tokens") ∈ lw_all := lw_g (lw_at lw_m2 170 rfl) rfl
theorem q479 : (Jvm.Cond.laysFinal "WaterWorks$Limit" "WaterWorks$Limit" "this$0" "LWaterWorks;") ∈ lw_all := lw_g (lw_at lw_m2 171 rfl) rfl
theorem q480 : (Jvm.Cond.soleField "WaterWorks$Limit" "this$0") ∈ lw_all := lw_g (lw_at lw_m2 172 rfl) rfl
theorem q481 : (Jvm.Cond.laysFinal "WaterWorks$Limit" "WaterWorks$Guard" "number" "I") ∈ lw_all := lw_g (lw_at lw_m2 173 rfl) rfl
theorem q482 : (Jvm.Cond.laysFinal "WaterWorks$Limit" "WaterWorks$Guard" "sort" "I") ∈ lw_all := lw_g (lw_at lw_m2 174 rfl) rfl
theorem q483 : (Jvm.Cond.laysFinal "WaterWorks$Limit" "WaterWorks$Guard" "a" "I") ∈ lw_all := lw_g (lw_at lw_m2 175 rfl) rfl
theorem q484 : (Jvm.Cond.laysFinal "WaterWorks$Limit" "WaterWorks$Guard" "b" "I") ∈ lw_all := lw_g (lw_at lw_m2 176 rfl) rfl
theorem q485 : (Jvm.Cond.laysFinal "WaterWorks$Limit" "WaterWorks$Guard" "c" "I") ∈ lw_all := lw_g (lw_at lw_m2 177 rfl) rfl
theorem q486 : (Jvm.Cond.laysFinal "WaterWorks$Limit" "WaterWorks$Guard" "named" "I") ∈ lw_all := lw_g (lw_at lw_m2 178 rfl) rfl
theorem q487 : (Jvm.Cond.laysFinal "WaterWorks$Limit" "WaterWorks$Guard" "this$0" "LWaterWorks;") ∈ lw_all := lw_g (lw_at lw_m2 179 rfl) rfl
theorem q488 : (Jvm.Cond.superclass "WaterWorks$Limit" "WaterWorks$Guard") ∈ lw_all := lw_g (lw_at lw_m2 180 rfl) rfl
theorem q999 : (Jvm.Cond.selects "WaterWorks$Limit" ({ cls := "java/lang/Object", name := "equals", desc := "(Ljava/lang/Object;)Z" } : Jvm.MethodName) ({ cls := "java/lang/Object", name := "equals", desc := "(Ljava/lang/Object;)Z" } : Jvm.MethodName)) ∈ lw_all := lw_g (lw_at lw_m4 211 rfl) rfl
theorem q1031 : (Jvm.Cond.selects "WaterWorks$Limit" ({ cls := "WaterWorks$Guard", name := "takenBack", desc := "(LWaterWorks$Call;)V" } : Jvm.MethodName) ({ cls := "WaterWorks$Guard", name := "takenBack", desc := "(LWaterWorks$Call;)V" } : Jvm.MethodName)) ∈ lw_all := lw_g (lw_at lw_m5 3 rfl) rfl
theorem q1045 : (Jvm.Cond.selects "WaterWorks$Limit" ({ cls := "WaterWorks$Guard", name := "told", desc := "(LWaterWorks$Call;LWaterWorks$Call;)V" } : Jvm.MethodName) ({ cls := "WaterWorks$Guard", name := "told", desc := "(LWaterWorks$Call;LWaterWorks$Call;)V" } : Jvm.MethodName)) ∈ lw_all := lw_g (lw_at lw_m5 17 rfl) rfl
theorem q1100 : (Jvm.Cond.selects "WaterWorks$Limit" ({ cls := "WaterWorks$Guard", name := "begins", desc := "(LWaterWorks$Call;)V" } : Jvm.MethodName) ({ cls := "WaterWorks$Limit", name := "begins", desc := "(LWaterWorks$Call;)V" } : Jvm.MethodName)) ∈ lw_all := lw_g (lw_at lw_m5 72 rfl) rfl
theorem q1101 : (Jvm.Cond.instanceMethod ({ cls := "WaterWorks$Limit", name := "begins", desc := "(LWaterWorks$Call;)V" } : Jvm.MethodName)) ∈ lw_all := lw_g (lw_at lw_m5 73 rfl) rfl
theorem q1102 : (Jvm.Cond.code ({ cls := "WaterWorks$Limit", name := "begins", desc := "(LWaterWorks$Call;)V" } : Jvm.MethodName) prog_16_method_2_code (2 : Nat) (Option.none : Option Jvm.ClassFile.FieldType)) ∈ lw_all := lw_g (lw_at lw_m5 74 rfl) rfl
theorem q1103 : (Jvm.Cond.methodLink "WaterWorks$Limit" (22 : Nat) ({ cls := "WaterWorks$Limit", name := "refuses", desc := "(LWaterWorks$Call;I)V" } : Jvm.MethodName)) ∈ lw_all := lw_g (lw_at lw_m5 75 rfl) rfl
theorem q1104 : (Jvm.Cond.sameMethod "WaterWorks$Limit" "WaterWorks$Guard" "refuses" "(LWaterWorks$Call;I)V") ∈ lw_all := lw_g (lw_at lw_m5 76 rfl) rfl
theorem q1105 : (Jvm.Cond.selects "WaterWorks$Limit" ({ cls := "WaterWorks$Limit", name := "refuses", desc := "(LWaterWorks$Call;I)V" } : Jvm.MethodName) ({ cls := "WaterWorks$Guard", name := "refuses", desc := "(LWaterWorks$Call;I)V" } : Jvm.MethodName)) ∈ lw_all := lw_g (lw_at lw_m5 77 rfl) rfl
theorem q1106 : (Jvm.Cond.methodLinkNest "WaterWorks$Limit" (26 : Nat) ({ cls := "WaterWorks", name := "goesIn", desc := "(LWaterWorks$Call;)V" } : Jvm.MethodName) "WaterWorks") ∈ lw_tbl := lw_at lw_m5 78 rfl
theorem q1142 : (Jvm.Cond.selects "WaterWorks$Limit" ({ cls := "WaterWorks$Guard", name := "newSecond", desc := "()V" } : Jvm.MethodName) ({ cls := "WaterWorks$Limit", name := "newSecond", desc := "()V" } : Jvm.MethodName)) ∈ lw_all := lw_g (lw_at lw_m5 114 rfl) rfl
theorem q1143 : (Jvm.Cond.instanceMethod ({ cls := "WaterWorks$Limit", name := "newSecond", desc := "()V" } : Jvm.MethodName)) ∈ lw_all := lw_g (lw_at lw_m5 115 rfl) rfl
theorem q1144 : (Jvm.Cond.code ({ cls := "WaterWorks$Limit", name := "newSecond", desc := "()V" } : Jvm.MethodName) prog_16_method_3_code (1 : Nat) (Option.none : Option Jvm.ClassFile.FieldType)) ∈ lw_all := lw_g (lw_at lw_m5 116 rfl) rfl
theorem q1145 : (Jvm.Cond.methodLink "WaterWorks$Limit" (33 : Nat) ({ cls := "java/lang/Math", name := "min", desc := "(II)I" } : Jvm.MethodName)) ∈ lw_all := lw_g (lw_at lw_m5 117 rfl) rfl
theorem q1217 : (Jvm.Cond.selects "WaterWorks$Limit" ({ cls := "WaterWorks$Guard", name := "due", desc := "(LWaterWorks$Call;)V" } : Jvm.MethodName) ({ cls := "WaterWorks$Guard", name := "due", desc := "(LWaterWorks$Call;)V" } : Jvm.MethodName)) ∈ lw_all := lw_g (lw_at lw_m5 189 rfl) rfl
theorem q2126 : (Jvm.Cond.castable "WaterWorks$Limit" "WaterWorks$Guard") ∈ lw_tbl := lw_at lw_m9 138 rfl
theorem q2142 : (Jvm.Cond.castable "WaterWorks$Limit" "java/lang/Object") ∈ lw_tbl := lw_at lw_m9 154 rfl
theorem in_X7 : ∀ w ∈ wsX70, w ∈ lw_all := lw_in wsX70 [481, 482, 483, 484, 485, 486, 487, 477, 479] (by decide +kernel) (by decide +kernel)
/-! WaterWorks$Deadline -/
def RX8 : String := "WaterWorks$Deadline"
def TX8 : u_T := fun k => match k with
  | 0 => ("WaterWorks$Guard", "number", "I", true)
  | 1 => ("WaterWorks$Guard", "sort", "I", true)
  | 2 => ("WaterWorks$Guard", "a", "I", true)
  | 3 => ("WaterWorks$Guard", "b", "I", true)
  | 4 => ("WaterWorks$Guard", "c", "I", true)
  | 5 => ("WaterWorks$Guard", "named", "I", true)
  | 6 => ("WaterWorks$Guard", "this$0", "LWaterWorks;", true)
  | _ => ("WaterWorks$Deadline", "this$0", "LWaterWorks;", true)
def tyX8 : Nat → FieldType := fun k => match k with
  | 0 => .int
  | 1 => .int
  | 2 => .int
  | 3 => .int
  | 4 => .int
  | 5 => .int
  | 6 => .object "WaterWorks"
  | _ => .object "WaterWorks"
abbrev wsX80 : List Cond := u_ws RX8 TX8 8
-- two fields of one name: no nmX8
theorem tyX8_ok : ∀ k, k < 8 → parseFieldDescriptor (TX8 k).2.2.1 = some (tyX8 k) := by decide +kernel
abbrev cX8_init : ByteArray := prog_6_method_1_code
def yX8_init : MethodName := ⟨RX8, "<init>", "(LWaterWorks;[I)V"⟩
abbrev cX8_begins : ByteArray := prog_6_method_2_code
def yX8_begins : MethodName := ⟨RX8, "begins", "(LWaterWorks$Call;)V"⟩
abbrev cX8_due : ByteArray := prog_6_method_3_code
def yX8_due : MethodName := ⟨RX8, "due", "(LWaterWorks$Call;)V"⟩
theorem q84 : (Jvm.Cond.initialized "WaterWorks$Deadline") ∈ lw_all := lw_g (lw_at lw_m1 16 rfl) rfl
theorem q138 : (Jvm.Cond.fieldLinkNest "WaterWorks$Deadline" (15 : Nat) "WaterWorks" "time" "I" "WaterWorks") ∈ lw_tbl := lw_at lw_m1 70 rfl
theorem q262 : (Jvm.Cond.selects "WaterWorks$Deadline" ({ cls := "java/lang/Object", name := "getClass", desc := "()Ljava/lang/Class;" } : Jvm.MethodName) ({ cls := "java/lang/Object", name := "getClass", desc := "()Ljava/lang/Class;" } : Jvm.MethodName)) ∈ lw_all := lw_g (lw_at lw_m1 194 rfl) rfl
theorem q378 : (Jvm.Cond.fieldLink "WaterWorks$Deadline" (19 : Nat) "WaterWorks$Deadline" "a" "I") ∈ lw_all := lw_g (lw_at lw_m2 70 rfl) rfl
theorem q379 : (Jvm.Cond.sameField "WaterWorks$Deadline" "WaterWorks$Guard" "a" "I") ∈ lw_all := lw_g (lw_at lw_m2 71 rfl) rfl
theorem q490 : (Jvm.Cond.instantiable "WaterWorks$Deadline" (8 : Nat)) ∈ lw_all := lw_g (lw_at lw_m2 182 rfl) rfl
theorem q492 : (Jvm.Cond.instanceMethod ({ cls := "WaterWorks$Deadline", name := "<init>", desc := "(LWaterWorks;[I)V" } : Jvm.MethodName)) ∈ lw_all := lw_g (lw_at lw_m2 184 rfl) rfl
theorem q493 : (Jvm.Cond.code ({ cls := "WaterWorks$Deadline", name := "<init>", desc := "(LWaterWorks;[I)V" } : Jvm.MethodName) prog_6_method_1_code (3 : Nat) (Option.none : Option Jvm.ClassFile.FieldType)) ∈ lw_all := lw_g (lw_at lw_m2 185 rfl) rfl
theorem q494 : (Jvm.Cond.methodLink "WaterWorks$Deadline" (9 : Nat) ({ cls := "WaterWorks$Guard", name := "<init>", desc := "(LWaterWorks;I[II)V" } : Jvm.MethodName)) ∈ lw_all := lw_g (lw_at lw_m2 186 rfl) rfl
theorem q495 : (Jvm.Cond.fieldLink "WaterWorks$Deadline" (3 : Nat) "WaterWorks$Deadline" "this$0" "LWaterWorks;") ∈ lw_all := lw_g (lw_at lw_m2 187 rfl) rfl
theorem q496 : (Jvm.Cond.laysFinal "WaterWorks$Deadline" "WaterWorks$Deadline" "this$0" "LWaterWorks;") ∈ lw_all := lw_g (lw_at lw_m2 188 rfl) rfl
theorem q497 : (Jvm.Cond.soleField "WaterWorks$Deadline" "this$0") ∈ lw_all := lw_g (lw_at lw_m2 189 rfl) rfl
theorem q498 : (Jvm.Cond.laysFinal "WaterWorks$Deadline" "WaterWorks$Guard" "number" "I") ∈ lw_all := lw_g (lw_at lw_m2 190 rfl) rfl
theorem q499 : (Jvm.Cond.laysFinal "WaterWorks$Deadline" "WaterWorks$Guard" "sort" "I") ∈ lw_all := lw_g (lw_at lw_m2 191 rfl) rfl
theorem q500 : (Jvm.Cond.laysFinal "WaterWorks$Deadline" "WaterWorks$Guard" "a" "I") ∈ lw_all := lw_g (lw_at lw_m2 192 rfl) rfl
theorem q501 : (Jvm.Cond.laysFinal "WaterWorks$Deadline" "WaterWorks$Guard" "b" "I") ∈ lw_all := lw_g (lw_at lw_m2 193 rfl) rfl
theorem q502 : (Jvm.Cond.laysFinal "WaterWorks$Deadline" "WaterWorks$Guard" "c" "I") ∈ lw_all := lw_g (lw_at lw_m2 194 rfl) rfl
theorem q503 : (Jvm.Cond.laysFinal "WaterWorks$Deadline" "WaterWorks$Guard" "named" "I") ∈ lw_all := lw_g (lw_at lw_m2 195 rfl) rfl
theorem q504 : (Jvm.Cond.laysFinal "WaterWorks$Deadline" "WaterWorks$Guard" "this$0" "LWaterWorks;") ∈ lw_all := lw_g (lw_at lw_m2 196 rfl) rfl
theorem q505 : (Jvm.Cond.superclass "WaterWorks$Deadline" "WaterWorks$Guard") ∈ lw_all := lw_g (lw_at lw_m2 197 rfl) rfl
theorem q752 : (Jvm.Cond.fieldLinkNest "WaterWorks$Deadline" (31 : Nat) "WaterWorks$Call" "within" "Ljava/util/ArrayList;" "WaterWorks") ∈ lw_tbl := lw_at lw_m3 204 rfl
theorem q779 : (Jvm.Cond.fieldLinkNest "WaterWorks$Deadline" (22 : Nat) "WaterWorks$Call" "due" "I" "WaterWorks") ∈ lw_tbl := lw_at lw_m3 231 rfl
theorem q914 : (Jvm.Cond.selects "WaterWorks$Deadline" ({ cls := "WaterWorks$Guard", name := "told", desc := "(LWaterWorks$Call;LWaterWorks$Call;)V" } : Jvm.MethodName) ({ cls := "WaterWorks$Guard", name := "told", desc := "(LWaterWorks$Call;LWaterWorks$Call;)V" } : Jvm.MethodName)) ∈ lw_all := lw_g (lw_at lw_m4 126 rfl) rfl
theorem q990 : (Jvm.Cond.selects "WaterWorks$Deadline" ({ cls := "java/lang/Object", name := "equals", desc := "(Ljava/lang/Object;)Z" } : Jvm.MethodName) ({ cls := "java/lang/Object", name := "equals", desc := "(Ljava/lang/Object;)Z" } : Jvm.MethodName)) ∈ lw_all := lw_g (lw_at lw_m4 202 rfl) rfl
theorem q1015 : (Jvm.Cond.selects "WaterWorks$Deadline" ({ cls := "WaterWorks$Guard", name := "takenBack", desc := "(LWaterWorks$Call;)V" } : Jvm.MethodName) ({ cls := "WaterWorks$Guard", name := "takenBack", desc := "(LWaterWorks$Call;)V" } : Jvm.MethodName)) ∈ lw_all := lw_g (lw_at lw_m4 227 rfl) rfl
theorem q1072 : (Jvm.Cond.selects "WaterWorks$Deadline" ({ cls := "WaterWorks$Guard", name := "begins", desc := "(LWaterWorks$Call;)V" } : Jvm.MethodName) ({ cls := "WaterWorks$Deadline", name := "begins", desc := "(LWaterWorks$Call;)V" } : Jvm.MethodName)) ∈ lw_all := lw_g (lw_at lw_m5 44 rfl) rfl
theorem q1073 : (Jvm.Cond.instanceMethod ({ cls := "WaterWorks$Deadline", name := "begins", desc := "(LWaterWorks$Call;)V" } : Jvm.MethodName)) ∈ lw_all := lw_g (lw_at lw_m5 45 rfl) rfl
theorem q1074 : (Jvm.Cond.code ({ cls := "WaterWorks$Deadline", name := "begins", desc := "(LWaterWorks$Call;)V" } : Jvm.MethodName) prog_6_method_2_code (2 : Nat) (Option.none : Option Jvm.ClassFile.FieldType)) ∈ lw_all := lw_g (lw_at lw_m5 46 rfl) rfl
theorem q1075 : (Jvm.Cond.methodLinkNest "WaterWorks$Deadline" (27 : Nat) ({ cls := "WaterWorks", name := "goesIn", desc := "(LWaterWorks$Call;)V" } : Jvm.MethodName) "WaterWorks") ∈ lw_tbl := lw_at lw_m5 47 rfl
theorem q1137 : (Jvm.Cond.selects "WaterWorks$Deadline" ({ cls := "WaterWorks$Guard", name := "newSecond", desc := "()V" } : Jvm.MethodName) ({ cls := "WaterWorks$Guard", name := "newSecond", desc := "()V" } : Jvm.MethodName)) ∈ lw_all := lw_g (lw_at lw_m5 109 rfl) rfl
theorem q1201 : (Jvm.Cond.selects "WaterWorks$Deadline" ({ cls := "WaterWorks$Guard", name := "due", desc := "(LWaterWorks$Call;)V" } : Jvm.MethodName) ({ cls := "WaterWorks$Deadline", name := "due", desc := "(LWaterWorks$Call;)V" } : Jvm.MethodName)) ∈ lw_all := lw_g (lw_at lw_m5 173 rfl) rfl
theorem q1202 : (Jvm.Cond.instanceMethod ({ cls := "WaterWorks$Deadline", name := "due", desc := "(LWaterWorks$Call;)V" } : Jvm.MethodName)) ∈ lw_all := lw_g (lw_at lw_m5 174 rfl) rfl
theorem q1203 : (Jvm.Cond.code ({ cls := "WaterWorks$Deadline", name := "due", desc := "(LWaterWorks$Call;)V" } : Jvm.MethodName) prog_6_method_3_code (2 : Nat) (Option.none : Option Jvm.ClassFile.FieldType)) ∈ lw_all := lw_g (lw_at lw_m5 175 rfl) rfl
theorem q1204 : (Jvm.Cond.methodLink "WaterWorks$Deadline" (35 : Nat) ({ cls := "java/util/ArrayList", name := "get", desc := "(I)Ljava/lang/Object;" } : Jvm.MethodName)) ∈ lw_all := lw_g (lw_at lw_m5 176 rfl) rfl
theorem q1205 : (Jvm.Cond.classLink "WaterWorks$Deadline" (23 : Nat) "WaterWorks$Call") ∈ lw_all := lw_g (lw_at lw_m5 177 rfl) rfl
theorem q1206 : (Jvm.Cond.methodLinkNest "WaterWorks$Deadline" (41 : Nat) ({ cls := "WaterWorks", name := "takeBack", desc := "(LWaterWorks$Call;)I" } : Jvm.MethodName) "WaterWorks") ∈ lw_tbl := lw_at lw_m5 178 rfl
theorem q1207 : (Jvm.Cond.methodLink "WaterWorks$Deadline" (45 : Nat) ({ cls := "WaterWorks$Call", name := "isUnderWay", desc := "()Z" } : Jvm.MethodName)) ∈ lw_all := lw_g (lw_at lw_m5 179 rfl) rfl
theorem q1208 : (Jvm.Cond.methodLink "WaterWorks$Deadline" (49 : Nat) ({ cls := "WaterWorks$Deadline", name := "refuses", desc := "(LWaterWorks$Call;I)V" } : Jvm.MethodName)) ∈ lw_all := lw_g (lw_at lw_m5 180 rfl) rfl
theorem q1209 : (Jvm.Cond.sameMethod "WaterWorks$Deadline" "WaterWorks$Guard" "refuses" "(LWaterWorks$Call;I)V") ∈ lw_all := lw_g (lw_at lw_m5 181 rfl) rfl
theorem q1210 : (Jvm.Cond.selects "WaterWorks$Deadline" ({ cls := "WaterWorks$Deadline", name := "refuses", desc := "(LWaterWorks$Call;I)V" } : Jvm.MethodName) ({ cls := "WaterWorks$Guard", name := "refuses", desc := "(LWaterWorks$Call;I)V" } : Jvm.MethodName)) ∈ lw_all := lw_g (lw_at lw_m5 182 rfl) rfl
theorem q2121 : (Jvm.Cond.castable "WaterWorks$Deadline" "WaterWorks$Guard") ∈ lw_tbl := lw_at lw_m9 133 rfl
theorem q2143 : (Jvm.Cond.castable "WaterWorks$Deadline" "java/lang/Object") ∈ lw_tbl := lw_at lw_m9 155 rfl
theorem in_X8 : ∀ w ∈ wsX80, w ∈ lw_all := lw_in wsX80 [498, 499, 500, 501, 502, 503, 504, 496] (by decide +kernel) (by decide +kernel)
/-! WaterWorks$Retry -/
def RX9 : String := "WaterWorks$Retry"
def TX9 : u_T := fun k => match k with
  | 0 => ("WaterWorks$Guard", "number", "I", true)
  | 1 => ("WaterWorks$Guard", "sort", "I", true)
  | 2 => ("WaterWorks$Guard", "a", "I", true)
  | 3 => ("WaterWorks$Guard", "b", "I", true)
  | 4 => ("WaterWorks$Guard", "c", "I", true)
  | 5 => ("WaterWorks$Guard", "named", "I", true)
  | 6 => ("WaterWorks$Guard", "this$0", "LWaterWorks;", true)
  | _ => ("WaterWorks$Retry", "this$0", "LWaterWorks;", true)
def tyX9 : Nat → FieldType := fun k => match k with
  | 0 => .int
  | 1 => .int
  | 2 => .int
  | 3 => .int
  | 4 => .int
  | 5 => .int
  | 6 => .object "WaterWorks"
  | _ => .object "WaterWorks"
abbrev wsX90 : List Cond := u_ws RX9 TX9 8
-- two fields of one name: no nmX9
theorem tyX9_ok : ∀ k, k < 8 → parseFieldDescriptor (TX9 k).2.2.1 = some (tyX9 k) := by decide +kernel
abbrev cX9_init : ByteArray := prog_20_method_1_code
def yX9_init : MethodName := ⟨RX9, "<init>", "(LWaterWorks;[II)V"⟩
abbrev cX9_told : ByteArray := prog_20_method_2_code
def yX9_told : MethodName := ⟨RX9, "told", "(LWaterWorks$Call;LWaterWorks$Call;)V"⟩
abbrev cX9_due : ByteArray := prog_20_method_3_code
def yX9_due : MethodName := ⟨RX9, "due", "(LWaterWorks$Call;)V"⟩
theorem q85 : (Jvm.Cond.initialized "WaterWorks$Retry") ∈ lw_all := lw_g (lw_at lw_m1 17 rfl) rfl
theorem q142 : (Jvm.Cond.fieldLinkNest "WaterWorks$Retry" (38 : Nat) "WaterWorks" "time" "I" "WaterWorks") ∈ lw_tbl := lw_at lw_m1 74 rfl
theorem q275 : (Jvm.Cond.selects "WaterWorks$Retry" ({ cls := "java/lang/Object", name := "getClass", desc := "()Ljava/lang/Class;" } : Jvm.MethodName) ({ cls := "java/lang/Object", name := "getClass", desc := "()Ljava/lang/Class;" } : Jvm.MethodName)) ∈ lw_all := lw_g (lw_at lw_m1 207 rfl) rfl
theorem q382 : (Jvm.Cond.fieldLink "WaterWorks$Retry" (31 : Nat) "WaterWorks$Retry" "a" "I") ∈ lw_all := lw_g (lw_at lw_m2 74 rfl) rfl
theorem q383 : (Jvm.Cond.sameField "WaterWorks$Retry" "WaterWorks$Guard" "a" "I") ∈ lw_all := lw_g (lw_at lw_m2 75 rfl) rfl
theorem q395 : (Jvm.Cond.fieldLink "WaterWorks$Retry" (44 : Nat) "WaterWorks$Retry" "b" "I") ∈ lw_all := lw_g (lw_at lw_m2 87 rfl) rfl
theorem q396 : (Jvm.Cond.sameField "WaterWorks$Retry" "WaterWorks$Guard" "b" "I") ∈ lw_all := lw_g (lw_at lw_m2 88 rfl) rfl
theorem q406 : (Jvm.Cond.fieldLink "WaterWorks$Retry" (41 : Nat) "WaterWorks$Retry" "c" "I") ∈ lw_all := lw_g (lw_at lw_m2 98 rfl) rfl
theorem q407 : (Jvm.Cond.sameField "WaterWorks$Retry" "WaterWorks$Guard" "c" "I") ∈ lw_all := lw_g (lw_at lw_m2 99 rfl) rfl
theorem q507 : (Jvm.Cond.instantiable "WaterWorks$Retry" (8 : Nat)) ∈ lw_all := lw_g (lw_at lw_m2 199 rfl) rfl
theorem q509 : (Jvm.Cond.instanceMethod ({ cls := "WaterWorks$Retry", name := "<init>", desc := "(LWaterWorks;[II)V" } : Jvm.MethodName)) ∈ lw_all := lw_g (lw_at lw_m2 201 rfl) rfl
theorem q510 : (Jvm.Cond.code ({ cls := "WaterWorks$Retry", name := "<init>", desc := "(LWaterWorks;[II)V" } : Jvm.MethodName) prog_20_method_1_code (4 : Nat) (Option.none : Option Jvm.ClassFile.FieldType)) ∈ lw_all := lw_g (lw_at lw_m2 202 rfl) rfl
theorem q511 : (Jvm.Cond.methodLink "WaterWorks$Retry" (9 : Nat) ({ cls := "WaterWorks$Guard", name := "<init>", desc := "(LWaterWorks;I[II)V" } : Jvm.MethodName)) ∈ lw_all := lw_g (lw_at lw_m2 203 rfl) rfl
theorem q512 : (Jvm.Cond.fieldLink "WaterWorks$Retry" (3 : Nat) "WaterWorks$Retry" "this$0" "LWaterWorks;") ∈ lw_all := lw_g (lw_at lw_m2 204 rfl) rfl
theorem q513 : (Jvm.Cond.laysFinal "WaterWorks$Retry" "WaterWorks$Retry" "this$0" "LWaterWorks;") ∈ lw_all := lw_g (lw_at lw_m2 205 rfl) rfl
theorem q514 : (Jvm.Cond.soleField "WaterWorks$Retry" "this$0") ∈ lw_all := lw_g (lw_at lw_m2 206 rfl) rfl
theorem q515 : (Jvm.Cond.laysFinal "WaterWorks$Retry" "WaterWorks$Guard" "number" "I") ∈ lw_all := lw_g (lw_at lw_m2 207 rfl) rfl
theorem q516 : (Jvm.Cond.laysFinal "WaterWorks$Retry" "WaterWorks$Guard" "sort" "I") ∈ lw_all := lw_g (lw_at lw_m2 208 rfl) rfl
theorem q517 : (Jvm.Cond.laysFinal "WaterWorks$Retry" "WaterWorks$Guard" "a" "I") ∈ lw_all := lw_g (lw_at lw_m2 209 rfl) rfl
theorem q518 : (Jvm.Cond.laysFinal "WaterWorks$Retry" "WaterWorks$Guard" "b" "I") ∈ lw_all := lw_g (lw_at lw_m2 210 rfl) rfl
theorem q519 : (Jvm.Cond.laysFinal "WaterWorks$Retry" "WaterWorks$Guard" "c" "I") ∈ lw_all := lw_g (lw_at lw_m2 211 rfl) rfl
theorem q520 : (Jvm.Cond.laysFinal "WaterWorks$Retry" "WaterWorks$Guard" "named" "I") ∈ lw_all := lw_g (lw_at lw_m2 212 rfl) rfl
theorem q521 : (Jvm.Cond.laysFinal "WaterWorks$Retry" "WaterWorks$Guard" "this$0" "LWaterWorks;") ∈ lw_all := lw_g (lw_at lw_m2 213 rfl) rfl
theorem q522 : (Jvm.Cond.superclass "WaterWorks$Retry" "WaterWorks$Guard") ∈ lw_all := lw_g (lw_at lw_m2 214 rfl) rfl
theorem q750 : (Jvm.Cond.fieldLinkNest "WaterWorks$Retry" (15 : Nat) "WaterWorks$Call" "within" "Ljava/util/ArrayList;" "WaterWorks") ∈ lw_tbl := lw_at lw_m3 202 rfl
theorem q762 : (Jvm.Cond.fieldLinkNest "WaterWorks$Retry" (50 : Nat) "WaterWorks$Call" "how" "I" "WaterWorks") ∈ lw_tbl := lw_at lw_m3 214 rfl
theorem q774 : (Jvm.Cond.fieldLinkNest "WaterWorks$Retry" (35 : Nat) "WaterWorks$Call" "state" "I" "WaterWorks") ∈ lw_tbl := lw_at lw_m3 226 rfl
theorem q781 : (Jvm.Cond.fieldLinkNest "WaterWorks$Retry" (47 : Nat) "WaterWorks$Call" "due" "I" "WaterWorks") ∈ lw_tbl := lw_at lw_m3 233 rfl
theorem q785 : (Jvm.Cond.fieldLinkNest "WaterWorks$Retry" (57 : Nat) "WaterWorks$Call" "failure" "LWaterWorks$Failure;" "WaterWorks") ∈ lw_tbl := lw_at lw_m3 237 rfl
theorem q1003 : (Jvm.Cond.selects "WaterWorks$Retry" ({ cls := "java/lang/Object", name := "equals", desc := "(Ljava/lang/Object;)Z" } : Jvm.MethodName) ({ cls := "java/lang/Object", name := "equals", desc := "(Ljava/lang/Object;)Z" } : Jvm.MethodName)) ∈ lw_all := lw_g (lw_at lw_m4 215 rfl) rfl
theorem q1033 : (Jvm.Cond.selects "WaterWorks$Retry" ({ cls := "WaterWorks$Guard", name := "takenBack", desc := "(LWaterWorks$Call;)V" } : Jvm.MethodName) ({ cls := "WaterWorks$Guard", name := "takenBack", desc := "(LWaterWorks$Call;)V" } : Jvm.MethodName)) ∈ lw_all := lw_g (lw_at lw_m5 5 rfl) rfl
theorem q1050 : (Jvm.Cond.selects "WaterWorks$Retry" ({ cls := "WaterWorks$Guard", name := "told", desc := "(LWaterWorks$Call;LWaterWorks$Call;)V" } : Jvm.MethodName) ({ cls := "WaterWorks$Retry", name := "told", desc := "(LWaterWorks$Call;LWaterWorks$Call;)V" } : Jvm.MethodName)) ∈ lw_all := lw_g (lw_at lw_m5 22 rfl) rfl
theorem q1051 : (Jvm.Cond.instanceMethod ({ cls := "WaterWorks$Retry", name := "told", desc := "(LWaterWorks$Call;LWaterWorks$Call;)V" } : Jvm.MethodName)) ∈ lw_all := lw_g (lw_at lw_m5 23 rfl) rfl
theorem q1052 : (Jvm.Cond.code ({ cls := "WaterWorks$Retry", name := "told", desc := "(LWaterWorks$Call;LWaterWorks$Call;)V" } : Jvm.MethodName) prog_20_method_2_code (5 : Nat) (Option.none : Option Jvm.ClassFile.FieldType)) ∈ lw_all := lw_g (lw_at lw_m5 24 rfl) rfl
theorem q1053 : (Jvm.Cond.methodLink "WaterWorks$Retry" (21 : Nat) ({ cls := "java/util/ArrayList", name := "size", desc := "()I" } : Jvm.MethodName)) ∈ lw_all := lw_g (lw_at lw_m5 25 rfl) rfl
theorem q1054 : (Jvm.Cond.methodLink "WaterWorks$Retry" (27 : Nat) ({ cls := "WaterWorks$Retry", name := "names", desc := "(LWaterWorks$Call;)Z" } : Jvm.MethodName)) ∈ lw_all := lw_g (lw_at lw_m5 26 rfl) rfl
theorem q1055 : (Jvm.Cond.sameMethod "WaterWorks$Retry" "WaterWorks$Guard" "names" "(LWaterWorks$Call;)Z") ∈ lw_all := lw_g (lw_at lw_m5 27 rfl) rfl
theorem q1056 : (Jvm.Cond.selects "WaterWorks$Retry" ({ cls := "WaterWorks$Retry", name := "names", desc := "(LWaterWorks$Call;)Z" } : Jvm.MethodName) ({ cls := "WaterWorks$Guard", name := "names", desc := "(LWaterWorks$Call;)Z" } : Jvm.MethodName)) ∈ lw_all := lw_g (lw_at lw_m5 28 rfl) rfl
theorem q1057 : (Jvm.Cond.methodLink "WaterWorks$Retry" (53 : Nat) ({ cls := "java/util/ArrayList", name := "get", desc := "(I)Ljava/lang/Object;" } : Jvm.MethodName)) ∈ lw_all := lw_g (lw_at lw_m5 29 rfl) rfl
theorem q1058 : (Jvm.Cond.classLink "WaterWorks$Retry" (16 : Nat) "WaterWorks$Call") ∈ lw_all := lw_g (lw_at lw_m5 30 rfl) rfl
theorem q1059 : (Jvm.Cond.methodLink "WaterWorks$Retry" (61 : Nat) ({ cls := "WaterWorks$Failure", name := "suppressed", desc := "(LWaterWorks$Failure;)V" } : Jvm.MethodName)) ∈ lw_all := lw_g (lw_at lw_m5 31 rfl) rfl
theorem q1060 : (Jvm.Cond.methodLinkNest "WaterWorks$Retry" (67 : Nat) ({ cls := "WaterWorks", name := "alike", desc := "(LWaterWorks$Call;LWaterWorks$Call;)V" } : Jvm.MethodName) "WaterWorks") ∈ lw_tbl := lw_at lw_m5 32 rfl
theorem q1112 : (Jvm.Cond.selects "WaterWorks$Retry" ({ cls := "WaterWorks$Guard", name := "begins", desc := "(LWaterWorks$Call;)V" } : Jvm.MethodName) ({ cls := "WaterWorks$Guard", name := "begins", desc := "(LWaterWorks$Call;)V" } : Jvm.MethodName)) ∈ lw_all := lw_g (lw_at lw_m5 84 rfl) rfl
theorem q1147 : (Jvm.Cond.selects "WaterWorks$Retry" ({ cls := "WaterWorks$Guard", name := "newSecond", desc := "()V" } : Jvm.MethodName) ({ cls := "WaterWorks$Guard", name := "newSecond", desc := "()V" } : Jvm.MethodName)) ∈ lw_all := lw_g (lw_at lw_m5 119 rfl) rfl
theorem q1219 : (Jvm.Cond.selects "WaterWorks$Retry" ({ cls := "WaterWorks$Guard", name := "due", desc := "(LWaterWorks$Call;)V" } : Jvm.MethodName) ({ cls := "WaterWorks$Retry", name := "due", desc := "(LWaterWorks$Call;)V" } : Jvm.MethodName)) ∈ lw_all := lw_g (lw_at lw_m5 191 rfl) rfl
theorem q1220 : (Jvm.Cond.instanceMethod ({ cls := "WaterWorks$Retry", name := "due", desc := "(LWaterWorks$Call;)V" } : Jvm.MethodName)) ∈ lw_all := lw_g (lw_at lw_m5 192 rfl) rfl
theorem q1221 : (Jvm.Cond.code ({ cls := "WaterWorks$Retry", name := "due", desc := "(LWaterWorks$Call;)V" } : Jvm.MethodName) prog_20_method_3_code (2 : Nat) (Option.none : Option Jvm.ClassFile.FieldType)) ∈ lw_all := lw_g (lw_at lw_m5 193 rfl) rfl
theorem q1222 : (Jvm.Cond.methodLinkNest "WaterWorks$Retry" (71 : Nat) ({ cls := "WaterWorks", name := "goesIn", desc := "(LWaterWorks$Call;)V" } : Jvm.MethodName) "WaterWorks") ∈ lw_tbl := lw_at lw_m5 194 rfl
theorem q2128 : (Jvm.Cond.castable "WaterWorks$Retry" "WaterWorks$Guard") ∈ lw_tbl := lw_at lw_m9 140 rfl
theorem q2144 : (Jvm.Cond.castable "WaterWorks$Retry" "java/lang/Object") ∈ lw_tbl := lw_at lw_m9 156 rfl
theorem in_X9 : ∀ w ∈ wsX90, w ∈ lw_all := lw_in wsX90 [515, 516, 517, 518, 519, 520, 521, 513] (by decide +kernel) (by decide +kernel)
/-! WaterWorks$Hedge -/
def RX10 : String := "WaterWorks$Hedge"
def TX10 : u_T := fun k => match k with
  | 0 => ("WaterWorks$Guard", "number", "I", true)
  | 1 => ("WaterWorks$Guard", "sort", "I", true)
  | 2 => ("WaterWorks$Guard", "a", "I", true)
  | 3 => ("WaterWorks$Guard", "b", "I", true)
  | 4 => ("WaterWorks$Guard", "c", "I", true)
  | 5 => ("WaterWorks$Guard", "named", "I", true)
  | 6 => ("WaterWorks$Guard", "this$0", "LWaterWorks;", true)
  | _ => ("WaterWorks$Hedge", "this$0", "LWaterWorks;", true)
def tyX10 : Nat → FieldType := fun k => match k with
  | 0 => .int
  | 1 => .int
  | 2 => .int
  | 3 => .int
  | 4 => .int
  | 5 => .int
  | 6 => .object "WaterWorks"
  | _ => .object "WaterWorks"
abbrev wsX100 : List Cond := u_ws RX10 TX10 8
-- two fields of one name: no nmX10
theorem tyX10_ok : ∀ k, k < 8 → parseFieldDescriptor (TX10 k).2.2.1 = some (tyX10 k) := by decide +kernel
abbrev cX10_init : ByteArray := prog_13_method_1_code
def yX10_init : MethodName := ⟨RX10, "<init>", "(LWaterWorks;[I)V"⟩
abbrev cX10_told : ByteArray := prog_13_method_3_code
def yX10_told : MethodName := ⟨RX10, "told", "(LWaterWorks$Call;LWaterWorks$Call;)V"⟩
abbrev cX10_begins : ByteArray := prog_13_method_2_code
def yX10_begins : MethodName := ⟨RX10, "begins", "(LWaterWorks$Call;)V"⟩
abbrev cX10_due : ByteArray := prog_13_method_4_code
def yX10_due : MethodName := ⟨RX10, "due", "(LWaterWorks$Call;)V"⟩
theorem q86 : (Jvm.Cond.initialized "WaterWorks$Hedge") ∈ lw_all := lw_g (lw_at lw_m1 18 rfl) rfl
theorem q139 : (Jvm.Cond.fieldLinkNest "WaterWorks$Hedge" (15 : Nat) "WaterWorks" "time" "I" "WaterWorks") ∈ lw_tbl := lw_at lw_m1 71 rfl
theorem q268 : (Jvm.Cond.selects "WaterWorks$Hedge" ({ cls := "java/lang/Object", name := "getClass", desc := "()Ljava/lang/Class;" } : Jvm.MethodName) ({ cls := "java/lang/Object", name := "getClass", desc := "()Ljava/lang/Class;" } : Jvm.MethodName)) ∈ lw_all := lw_g (lw_at lw_m1 200 rfl) rfl
theorem q380 : (Jvm.Cond.fieldLink "WaterWorks$Hedge" (19 : Nat) "WaterWorks$Hedge" "a" "I") ∈ lw_all := lw_g (lw_at lw_m2 72 rfl) rfl
theorem q381 : (Jvm.Cond.sameField "WaterWorks$Hedge" "WaterWorks$Guard" "a" "I") ∈ lw_all := lw_g (lw_at lw_m2 73 rfl) rfl
theorem q524 : (Jvm.Cond.instantiable "WaterWorks$Hedge" (8 : Nat)) ∈ lw_all := lw_g (lw_at lw_m2 216 rfl) rfl
theorem q526 : (Jvm.Cond.instanceMethod ({ cls := "WaterWorks$Hedge", name := "<init>", desc := "(LWaterWorks;[I)V" } : Jvm.MethodName)) ∈ lw_all := lw_g (lw_at lw_m2 218 rfl) rfl
theorem q527 : (Jvm.Cond.code ({ cls := "WaterWorks$Hedge", name := "<init>", desc := "(LWaterWorks;[I)V" } : Jvm.MethodName) prog_13_method_1_code (3 : Nat) (Option.none : Option Jvm.ClassFile.FieldType)) ∈ lw_all := lw_g (lw_at lw_m2 219 rfl) rfl
theorem q528 : (Jvm.Cond.methodLink "WaterWorks$Hedge" (9 : Nat) ({ cls := "WaterWorks$Guard", name := "<init>", desc := "(LWaterWorks;I[II)V" } : Jvm.MethodName)) ∈ lw_all := lw_g (lw_at lw_m2 220 rfl) rfl
theorem q529 : (Jvm.Cond.fieldLink "WaterWorks$Hedge" (3 : Nat) "WaterWorks$Hedge" "this$0" "LWaterWorks;") ∈ lw_all := lw_g (lw_at lw_m2 221 rfl) rfl
theorem q530 : (Jvm.Cond.laysFinal "WaterWorks$Hedge" "WaterWorks$Hedge" "this$0" "LWaterWorks;") ∈ lw_all := lw_g (lw_at lw_m2 222 rfl) rfl
theorem q531 : (Jvm.Cond.soleField "WaterWorks$Hedge" "this$0") ∈ lw_all := lw_g (lw_at lw_m2 223 rfl) rfl
theorem q532 : (Jvm.Cond.laysFinal "WaterWorks$Hedge" "WaterWorks$Guard" "number" "I") ∈ lw_all := lw_g (lw_at lw_m2 224 rfl) rfl
theorem q533 : (Jvm.Cond.laysFinal "WaterWorks$Hedge" "WaterWorks$Guard" "sort" "I") ∈ lw_all := lw_g (lw_at lw_m2 225 rfl) rfl
theorem q534 : (Jvm.Cond.laysFinal "WaterWorks$Hedge" "WaterWorks$Guard" "a" "I") ∈ lw_all := lw_g (lw_at lw_m2 226 rfl) rfl
theorem q535 : (Jvm.Cond.laysFinal "WaterWorks$Hedge" "WaterWorks$Guard" "b" "I") ∈ lw_all := lw_g (lw_at lw_m2 227 rfl) rfl
theorem q536 : (Jvm.Cond.laysFinal "WaterWorks$Hedge" "WaterWorks$Guard" "c" "I") ∈ lw_all := lw_g (lw_at lw_m2 228 rfl) rfl
theorem q537 : (Jvm.Cond.laysFinal "WaterWorks$Hedge" "WaterWorks$Guard" "named" "I") ∈ lw_all := lw_g (lw_at lw_m2 229 rfl) rfl
theorem q538 : (Jvm.Cond.laysFinal "WaterWorks$Hedge" "WaterWorks$Guard" "this$0" "LWaterWorks;") ∈ lw_all := lw_g (lw_at lw_m2 230 rfl) rfl
theorem q539 : (Jvm.Cond.superclass "WaterWorks$Hedge" "WaterWorks$Guard") ∈ lw_all := lw_g (lw_at lw_m2 231 rfl) rfl
theorem q763 : (Jvm.Cond.fieldLinkNest "WaterWorks$Hedge" (35 : Nat) "WaterWorks$Call" "how" "I" "WaterWorks") ∈ lw_tbl := lw_at lw_m3 215 rfl
theorem q780 : (Jvm.Cond.fieldLinkNest "WaterWorks$Hedge" (22 : Nat) "WaterWorks$Call" "due" "I" "WaterWorks") ∈ lw_tbl := lw_at lw_m3 232 rfl
theorem q786 : (Jvm.Cond.fieldLinkNest "WaterWorks$Hedge" (50 : Nat) "WaterWorks$Call" "failure" "LWaterWorks$Failure;" "WaterWorks") ∈ lw_tbl := lw_at lw_m3 238 rfl
theorem q949 : (Jvm.Cond.selects "WaterWorks$Hedge" ({ cls := "WaterWorks$Guard", name := "told", desc := "(LWaterWorks$Call;LWaterWorks$Call;)V" } : Jvm.MethodName) ({ cls := "WaterWorks$Hedge", name := "told", desc := "(LWaterWorks$Call;LWaterWorks$Call;)V" } : Jvm.MethodName)) ∈ lw_all := lw_g (lw_at lw_m4 161 rfl) rfl
theorem q950 : (Jvm.Cond.instanceMethod ({ cls := "WaterWorks$Hedge", name := "told", desc := "(LWaterWorks$Call;LWaterWorks$Call;)V" } : Jvm.MethodName)) ∈ lw_all := lw_g (lw_at lw_m4 162 rfl) rfl
theorem q951 : (Jvm.Cond.code ({ cls := "WaterWorks$Hedge", name := "told", desc := "(LWaterWorks$Call;LWaterWorks$Call;)V" } : Jvm.MethodName) prog_13_method_3_code (4 : Nat) (Option.none : Option Jvm.ClassFile.FieldType)) ∈ lw_all := lw_g (lw_at lw_m4 163 rfl) rfl
theorem q952 : (Jvm.Cond.methodLink "WaterWorks$Hedge" (31 : Nat) ({ cls := "WaterWorks$Call", name := "other", desc := "(LWaterWorks$Call;)LWaterWorks$Call;" } : Jvm.MethodName)) ∈ lw_all := lw_g (lw_at lw_m4 164 rfl) rfl
theorem q959 : (Jvm.Cond.methodLink "WaterWorks$Hedge" (38 : Nat) ({ cls := "WaterWorks$Call", name := "isUnderWay", desc := "()Z" } : Jvm.MethodName)) ∈ lw_all := lw_g (lw_at lw_m4 171 rfl) rfl
theorem q963 : (Jvm.Cond.methodLinkNest "WaterWorks$Hedge" (42 : Nat) ({ cls := "WaterWorks", name := "takeBack", desc := "(LWaterWorks$Call;)I" } : Jvm.MethodName) "WaterWorks") ∈ lw_tbl := lw_at lw_m4 175 rfl
theorem q996 : (Jvm.Cond.selects "WaterWorks$Hedge" ({ cls := "java/lang/Object", name := "equals", desc := "(Ljava/lang/Object;)Z" } : Jvm.MethodName) ({ cls := "java/lang/Object", name := "equals", desc := "(Ljava/lang/Object;)Z" } : Jvm.MethodName)) ∈ lw_all := lw_g (lw_at lw_m4 208 rfl) rfl
theorem q1020 : (Jvm.Cond.selects "WaterWorks$Hedge" ({ cls := "WaterWorks$Guard", name := "takenBack", desc := "(LWaterWorks$Call;)V" } : Jvm.MethodName) ({ cls := "WaterWorks$Guard", name := "takenBack", desc := "(LWaterWorks$Call;)V" } : Jvm.MethodName)) ∈ lw_all := lw_g (lw_at lw_m4 232 rfl) rfl
theorem q1036 : (Jvm.Cond.methodLinkNest "WaterWorks$Hedge" (46 : Nat) ({ cls := "WaterWorks", name := "alike", desc := "(LWaterWorks$Call;LWaterWorks$Call;)V" } : Jvm.MethodName) "WaterWorks") ∈ lw_tbl := lw_at lw_m5 8 rfl
theorem q1037 : (Jvm.Cond.methodLink "WaterWorks$Hedge" (54 : Nat) ({ cls := "WaterWorks$Failure", name := "suppressed", desc := "(LWaterWorks$Failure;)V" } : Jvm.MethodName)) ∈ lw_all := lw_g (lw_at lw_m5 9 rfl) rfl
theorem q1084 : (Jvm.Cond.selects "WaterWorks$Hedge" ({ cls := "WaterWorks$Guard", name := "begins", desc := "(LWaterWorks$Call;)V" } : Jvm.MethodName) ({ cls := "WaterWorks$Hedge", name := "begins", desc := "(LWaterWorks$Call;)V" } : Jvm.MethodName)) ∈ lw_all := lw_g (lw_at lw_m5 56 rfl) rfl
theorem q1085 : (Jvm.Cond.instanceMethod ({ cls := "WaterWorks$Hedge", name := "begins", desc := "(LWaterWorks$Call;)V" } : Jvm.MethodName)) ∈ lw_all := lw_g (lw_at lw_m5 57 rfl) rfl
theorem q1086 : (Jvm.Cond.code ({ cls := "WaterWorks$Hedge", name := "begins", desc := "(LWaterWorks$Call;)V" } : Jvm.MethodName) prog_13_method_2_code (2 : Nat) (Option.none : Option Jvm.ClassFile.FieldType)) ∈ lw_all := lw_g (lw_at lw_m5 58 rfl) rfl
theorem q1087 : (Jvm.Cond.methodLinkNest "WaterWorks$Hedge" (27 : Nat) ({ cls := "WaterWorks", name := "goesIn", desc := "(LWaterWorks$Call;)V" } : Jvm.MethodName) "WaterWorks") ∈ lw_tbl := lw_at lw_m5 59 rfl
theorem q1140 : (Jvm.Cond.selects "WaterWorks$Hedge" ({ cls := "WaterWorks$Guard", name := "newSecond", desc := "()V" } : Jvm.MethodName) ({ cls := "WaterWorks$Guard", name := "newSecond", desc := "()V" } : Jvm.MethodName)) ∈ lw_all := lw_g (lw_at lw_m5 112 rfl) rfl
theorem q1213 : (Jvm.Cond.selects "WaterWorks$Hedge" ({ cls := "WaterWorks$Guard", name := "due", desc := "(LWaterWorks$Call;)V" } : Jvm.MethodName) ({ cls := "WaterWorks$Hedge", name := "due", desc := "(LWaterWorks$Call;)V" } : Jvm.MethodName)) ∈ lw_all := lw_g (lw_at lw_m5 185 rfl) rfl
theorem q1214 : (Jvm.Cond.instanceMethod ({ cls := "WaterWorks$Hedge", name := "due", desc := "(LWaterWorks$Call;)V" } : Jvm.MethodName)) ∈ lw_all := lw_g (lw_at lw_m5 186 rfl) rfl
theorem q1215 : (Jvm.Cond.code ({ cls := "WaterWorks$Hedge", name := "due", desc := "(LWaterWorks$Call;)V" } : Jvm.MethodName) prog_13_method_4_code (2 : Nat) (Option.none : Option Jvm.ClassFile.FieldType)) ∈ lw_all := lw_g (lw_at lw_m5 187 rfl) rfl
theorem q2124 : (Jvm.Cond.castable "WaterWorks$Hedge" "WaterWorks$Guard") ∈ lw_tbl := lw_at lw_m9 136 rfl
theorem q2145 : (Jvm.Cond.castable "WaterWorks$Hedge" "java/lang/Object") ∈ lw_tbl := lw_at lw_m9 157 rfl
theorem in_X10 : ∀ w ∈ wsX100, w ∈ lw_all := lw_in wsX100 [532, 533, 534, 535, 536, 537, 538, 530] (by decide +kernel) (by decide +kernel)
/-! WaterWorks$Fallback -/
def RX11 : String := "WaterWorks$Fallback"
def TX11 : u_T := fun k => match k with
  | 0 => ("WaterWorks$Guard", "number", "I", true)
  | 1 => ("WaterWorks$Guard", "sort", "I", true)
  | 2 => ("WaterWorks$Guard", "a", "I", true)
  | 3 => ("WaterWorks$Guard", "b", "I", true)
  | 4 => ("WaterWorks$Guard", "c", "I", true)
  | 5 => ("WaterWorks$Guard", "named", "I", true)
  | 6 => ("WaterWorks$Guard", "this$0", "LWaterWorks;", true)
  | _ => ("WaterWorks$Fallback", "this$0", "LWaterWorks;", true)
def tyX11 : Nat → FieldType := fun k => match k with
  | 0 => .int
  | 1 => .int
  | 2 => .int
  | 3 => .int
  | 4 => .int
  | 5 => .int
  | 6 => .object "WaterWorks"
  | _ => .object "WaterWorks"
abbrev wsX110 : List Cond := u_ws RX11 TX11 8
-- two fields of one name: no nmX11
theorem tyX11_ok : ∀ k, k < 8 → parseFieldDescriptor (TX11 k).2.2.1 = some (tyX11 k) := by decide +kernel
abbrev cX11_init : ByteArray := prog_9_method_1_code
def yX11_init : MethodName := ⟨RX11, "<init>", "(LWaterWorks;[II)V"⟩
abbrev cX11_told : ByteArray := prog_9_method_2_code
def yX11_told : MethodName := ⟨RX11, "told", "(LWaterWorks$Call;LWaterWorks$Call;)V"⟩
theorem q87 : (Jvm.Cond.initialized "WaterWorks$Fallback") ∈ lw_all := lw_g (lw_at lw_m1 19 rfl) rfl
theorem q265 : (Jvm.Cond.selects "WaterWorks$Fallback" ({ cls := "java/lang/Object", name := "getClass", desc := "()Ljava/lang/Class;" } : Jvm.MethodName) ({ cls := "java/lang/Object", name := "getClass", desc := "()Ljava/lang/Class;" } : Jvm.MethodName)) ∈ lw_all := lw_g (lw_at lw_m1 197 rfl) rfl
theorem q386 : (Jvm.Cond.fieldLink "WaterWorks$Fallback" (59 : Nat) "WaterWorks$Fallback" "a" "I") ∈ lw_all := lw_g (lw_at lw_m2 78 rfl) rfl
theorem q387 : (Jvm.Cond.sameField "WaterWorks$Fallback" "WaterWorks$Guard" "a" "I") ∈ lw_all := lw_g (lw_at lw_m2 79 rfl) rfl
theorem q397 : (Jvm.Cond.fieldLink "WaterWorks$Fallback" (62 : Nat) "WaterWorks$Fallback" "b" "I") ∈ lw_all := lw_g (lw_at lw_m2 89 rfl) rfl
theorem q398 : (Jvm.Cond.sameField "WaterWorks$Fallback" "WaterWorks$Guard" "b" "I") ∈ lw_all := lw_g (lw_at lw_m2 90 rfl) rfl
theorem q541 : (Jvm.Cond.instantiable "WaterWorks$Fallback" (8 : Nat)) ∈ lw_all := lw_g (lw_at lw_m2 233 rfl) rfl
theorem q543 : (Jvm.Cond.instanceMethod ({ cls := "WaterWorks$Fallback", name := "<init>", desc := "(LWaterWorks;[II)V" } : Jvm.MethodName)) ∈ lw_all := lw_g (lw_at lw_m2 235 rfl) rfl
theorem q544 : (Jvm.Cond.code ({ cls := "WaterWorks$Fallback", name := "<init>", desc := "(LWaterWorks;[II)V" } : Jvm.MethodName) prog_9_method_1_code (4 : Nat) (Option.none : Option Jvm.ClassFile.FieldType)) ∈ lw_all := lw_g (lw_at lw_m2 236 rfl) rfl
theorem q545 : (Jvm.Cond.methodLink "WaterWorks$Fallback" (9 : Nat) ({ cls := "WaterWorks$Guard", name := "<init>", desc := "(LWaterWorks;I[II)V" } : Jvm.MethodName)) ∈ lw_all := lw_g (lw_at lw_m2 237 rfl) rfl
theorem q546 : (Jvm.Cond.fieldLink "WaterWorks$Fallback" (3 : Nat) "WaterWorks$Fallback" "this$0" "LWaterWorks;") ∈ lw_all := lw_g (lw_at lw_m2 238 rfl) rfl
theorem q547 : (Jvm.Cond.laysFinal "WaterWorks$Fallback" "WaterWorks$Fallback" "this$0" "LWaterWorks;") ∈ lw_all := lw_g (lw_at lw_m2 239 rfl) rfl
theorem q548 : (Jvm.Cond.soleField "WaterWorks$Fallback" "this$0") ∈ lw_all := lw_g (lw_at lw_m3 0 rfl) rfl
theorem q549 : (Jvm.Cond.laysFinal "WaterWorks$Fallback" "WaterWorks$Guard" "number" "I") ∈ lw_all := lw_g (lw_at lw_m3 1 rfl) rfl
theorem q550 : (Jvm.Cond.laysFinal "WaterWorks$Fallback" "WaterWorks$Guard" "sort" "I") ∈ lw_all := lw_g (lw_at lw_m3 2 rfl) rfl
theorem q551 : (Jvm.Cond.laysFinal "WaterWorks$Fallback" "WaterWorks$Guard" "a" "I") ∈ lw_all := lw_g (lw_at lw_m3 3 rfl) rfl
theorem q552 : (Jvm.Cond.laysFinal "WaterWorks$Fallback" "WaterWorks$Guard" "b" "I") ∈ lw_all := lw_g (lw_at lw_m3 4 rfl) rfl
theorem q553 : (Jvm.Cond.laysFinal "WaterWorks$Fallback" "WaterWorks$Guard" "c" "I") ∈ lw_all := lw_g (lw_at lw_m3 5 rfl) rfl
theorem q554 : (Jvm.Cond.laysFinal "WaterWorks$Fallback" "WaterWorks$Guard" "named" "I") ∈ lw_all := lw_g (lw_at lw_m3 6 rfl) rfl
theorem q555 : (Jvm.Cond.laysFinal "WaterWorks$Fallback" "WaterWorks$Guard" "this$0" "LWaterWorks;") ∈ lw_all := lw_g (lw_at lw_m3 7 rfl) rfl
theorem q556 : (Jvm.Cond.superclass "WaterWorks$Fallback" "WaterWorks$Guard") ∈ lw_all := lw_g (lw_at lw_m3 8 rfl) rfl
theorem q733 : (Jvm.Cond.fieldLinkNest "WaterWorks$Fallback" (69 : Nat) "WaterWorks$Call" "depth" "I" "WaterWorks") ∈ lw_tbl := lw_at lw_m3 185 rfl
theorem q742 : (Jvm.Cond.fieldLinkNest "WaterWorks$Fallback" (65 : Nat) "WaterWorks$Call" "order" "LWaterWorks$Order;" "WaterWorks") ∈ lw_tbl := lw_at lw_m3 194 rfl
theorem q751 : (Jvm.Cond.fieldLinkNest "WaterWorks$Fallback" (36 : Nat) "WaterWorks$Call" "within" "Ljava/util/ArrayList;" "WaterWorks") ∈ lw_tbl := lw_at lw_m3 203 rfl
theorem q759 : (Jvm.Cond.fieldLinkNest "WaterWorks$Fallback" (15 : Nat) "WaterWorks$Call" "fellBack" "Z" "WaterWorks") ∈ lw_tbl := lw_at lw_m3 211 rfl
theorem q761 : (Jvm.Cond.fieldLinkNest "WaterWorks$Fallback" (21 : Nat) "WaterWorks$Call" "how" "I" "WaterWorks") ∈ lw_tbl := lw_at lw_m3 213 rfl
theorem q769 : (Jvm.Cond.fieldLinkNest "WaterWorks$Fallback" (25 : Nat) "WaterWorks$Call" "answer" "I" "WaterWorks") ∈ lw_tbl := lw_at lw_m3 221 rfl
theorem q783 : (Jvm.Cond.fieldLinkNest "WaterWorks$Fallback" (32 : Nat) "WaterWorks$Call" "failure" "LWaterWorks$Failure;" "WaterWorks") ∈ lw_tbl := lw_at lw_m3 235 rfl
theorem q872 : (Jvm.Cond.fieldLinkNest "WaterWorks$Fallback" (46 : Nat) "WaterWorks$Failure" "cause" "LWaterWorks$Failure;" "WaterWorks") ∈ lw_tbl := lw_at lw_m4 84 rfl
theorem q915 : (Jvm.Cond.selects "WaterWorks$Fallback" ({ cls := "WaterWorks$Guard", name := "told", desc := "(LWaterWorks$Call;LWaterWorks$Call;)V" } : Jvm.MethodName) ({ cls := "WaterWorks$Fallback", name := "told", desc := "(LWaterWorks$Call;LWaterWorks$Call;)V" } : Jvm.MethodName)) ∈ lw_all := lw_g (lw_at lw_m4 127 rfl) rfl
theorem q916 : (Jvm.Cond.instanceMethod ({ cls := "WaterWorks$Fallback", name := "told", desc := "(LWaterWorks$Call;LWaterWorks$Call;)V" } : Jvm.MethodName)) ∈ lw_all := lw_g (lw_at lw_m4 128 rfl) rfl
theorem q917 : (Jvm.Cond.code ({ cls := "WaterWorks$Fallback", name := "told", desc := "(LWaterWorks$Call;LWaterWorks$Call;)V" } : Jvm.MethodName) prog_9_method_2_code (3 : Nat) (Option.none : Option Jvm.ClassFile.FieldType)) ∈ lw_all := lw_g (lw_at lw_m4 129 rfl) rfl
theorem q918 : (Jvm.Cond.methodLinkNest "WaterWorks$Fallback" (28 : Nat) ({ cls := "WaterWorks", name := "good", desc := "(LWaterWorks$Call;IZ)V" } : Jvm.MethodName) "WaterWorks") ∈ lw_tbl := lw_at lw_m4 130 rfl
theorem q919 : (Jvm.Cond.methodLink "WaterWorks$Fallback" (40 : Nat) ({ cls := "java/util/ArrayList", name := "get", desc := "(I)Ljava/lang/Object;" } : Jvm.MethodName)) ∈ lw_all := lw_g (lw_at lw_m4 131 rfl) rfl
theorem q920 : (Jvm.Cond.classLink "WaterWorks$Fallback" (16 : Nat) "WaterWorks$Call") ∈ lw_all := lw_g (lw_at lw_m4 132 rfl) rfl
theorem q921 : (Jvm.Cond.methodLinkNest "WaterWorks$Fallback" (51 : Nat) ({ cls := "WaterWorks", name := "alike", desc := "(LWaterWorks$Call;LWaterWorks$Call;)V" } : Jvm.MethodName) "WaterWorks") ∈ lw_tbl := lw_at lw_m4 133 rfl
theorem q922 : (Jvm.Cond.methodLink "WaterWorks$Fallback" (55 : Nat) ({ cls := "WaterWorks$Fallback", name := "names", desc := "(LWaterWorks$Call;)Z" } : Jvm.MethodName)) ∈ lw_all := lw_g (lw_at lw_m4 134 rfl) rfl
theorem q923 : (Jvm.Cond.sameMethod "WaterWorks$Fallback" "WaterWorks$Guard" "names" "(LWaterWorks$Call;)Z") ∈ lw_all := lw_g (lw_at lw_m4 135 rfl) rfl
theorem q925 : (Jvm.Cond.selects "WaterWorks$Fallback" ({ cls := "WaterWorks$Fallback", name := "names", desc := "(LWaterWorks$Call;)Z" } : Jvm.MethodName) ({ cls := "WaterWorks$Guard", name := "names", desc := "(LWaterWorks$Call;)Z" } : Jvm.MethodName)) ∈ lw_all := lw_g (lw_at lw_m4 137 rfl) rfl
theorem q933 : (Jvm.Cond.methodLinkNest "WaterWorks$Fallback" (72 : Nat) ({ cls := "WaterWorks", name := "beginTry", desc := "(LWaterWorks$Order;ILWaterWorks$Call;I)V" } : Jvm.MethodName) "WaterWorks") ∈ lw_tbl := lw_at lw_m4 145 rfl
theorem q993 : (Jvm.Cond.selects "WaterWorks$Fallback" ({ cls := "java/lang/Object", name := "equals", desc := "(Ljava/lang/Object;)Z" } : Jvm.MethodName) ({ cls := "java/lang/Object", name := "equals", desc := "(Ljava/lang/Object;)Z" } : Jvm.MethodName)) ∈ lw_all := lw_g (lw_at lw_m4 205 rfl) rfl
theorem q1016 : (Jvm.Cond.selects "WaterWorks$Fallback" ({ cls := "WaterWorks$Guard", name := "takenBack", desc := "(LWaterWorks$Call;)V" } : Jvm.MethodName) ({ cls := "WaterWorks$Guard", name := "takenBack", desc := "(LWaterWorks$Call;)V" } : Jvm.MethodName)) ∈ lw_all := lw_g (lw_at lw_m4 228 rfl) rfl
theorem q1076 : (Jvm.Cond.selects "WaterWorks$Fallback" ({ cls := "WaterWorks$Guard", name := "begins", desc := "(LWaterWorks$Call;)V" } : Jvm.MethodName) ({ cls := "WaterWorks$Guard", name := "begins", desc := "(LWaterWorks$Call;)V" } : Jvm.MethodName)) ∈ lw_all := lw_g (lw_at lw_m5 48 rfl) rfl
theorem q1138 : (Jvm.Cond.selects "WaterWorks$Fallback" ({ cls := "WaterWorks$Guard", name := "newSecond", desc := "()V" } : Jvm.MethodName) ({ cls := "WaterWorks$Guard", name := "newSecond", desc := "()V" } : Jvm.MethodName)) ∈ lw_all := lw_g (lw_at lw_m5 110 rfl) rfl
theorem q1211 : (Jvm.Cond.selects "WaterWorks$Fallback" ({ cls := "WaterWorks$Guard", name := "due", desc := "(LWaterWorks$Call;)V" } : Jvm.MethodName) ({ cls := "WaterWorks$Guard", name := "due", desc := "(LWaterWorks$Call;)V" } : Jvm.MethodName)) ∈ lw_all := lw_g (lw_at lw_m5 183 rfl) rfl
theorem q2122 : (Jvm.Cond.castable "WaterWorks$Fallback" "WaterWorks$Guard") ∈ lw_tbl := lw_at lw_m9 134 rfl
theorem q2146 : (Jvm.Cond.castable "WaterWorks$Fallback" "java/lang/Object") ∈ lw_tbl := lw_at lw_m9 158 rfl
theorem in_X11 : ∀ w ∈ wsX110, w ∈ lw_all := lw_in wsX110 [549, 550, 551, 552, 553, 554, 555, 547] (by decide +kernel) (by decide +kernel)
/-! WaterWorks$Memory -/
def RX12 : String := "WaterWorks$Memory"
def TX12 : u_T := fun k => match k with
  | 0 => ("WaterWorks$Guard", "number", "I", true)
  | 1 => ("WaterWorks$Guard", "sort", "I", true)
  | 2 => ("WaterWorks$Guard", "a", "I", true)
  | 3 => ("WaterWorks$Guard", "b", "I", true)
  | 4 => ("WaterWorks$Guard", "c", "I", true)
  | 5 => ("WaterWorks$Guard", "named", "I", true)
  | 6 => ("WaterWorks$Guard", "this$0", "LWaterWorks;", true)
  | 7 => ("WaterWorks$Memory", "answers", "[I", true)
  | 8 => ("WaterWorks$Memory", "seconds", "[I", true)
  | 9 => ("WaterWorks$Memory", "by", "[Z", true)
  | _ => ("WaterWorks$Memory", "this$0", "LWaterWorks;", true)
def tyX12 : Nat → FieldType := fun k => match k with
  | 0 => .int
  | 1 => .int
  | 2 => .int
  | 3 => .int
  | 4 => .int
  | 5 => .int
  | 6 => .object "WaterWorks"
  | 7 => .array .int
  | 8 => .array .int
  | 9 => .array .boolean
  | _ => .object "WaterWorks"
abbrev wsX120 : List Cond := u_ws RX12 TX12 11
-- two fields of one name: no nmX12
theorem tyX12_ok : ∀ k, k < 11 → parseFieldDescriptor (TX12 k).2.2.1 = some (tyX12 k) := by decide +kernel
abbrev cX12_init : ByteArray := prog_17_method_1_code
def yX12_init : MethodName := ⟨RX12, "<init>", "(LWaterWorks;[I)V"⟩
abbrev cX12_told : ByteArray := prog_17_method_3_code
def yX12_told : MethodName := ⟨RX12, "told", "(LWaterWorks$Call;LWaterWorks$Call;)V"⟩
abbrev cX12_begins : ByteArray := prog_17_method_2_code
def yX12_begins : MethodName := ⟨RX12, "begins", "(LWaterWorks$Call;)V"⟩
theorem q88 : (Jvm.Cond.initialized "WaterWorks$Memory") ∈ lw_all := lw_g (lw_at lw_m1 20 rfl) rfl
theorem q141 : (Jvm.Cond.fieldLinkNest "WaterWorks$Memory" (41 : Nat) "WaterWorks" "time" "I" "WaterWorks") ∈ lw_tbl := lw_at lw_m1 73 rfl
theorem q272 : (Jvm.Cond.selects "WaterWorks$Memory" ({ cls := "java/lang/Object", name := "getClass", desc := "()Ljava/lang/Class;" } : Jvm.MethodName) ({ cls := "java/lang/Object", name := "getClass", desc := "()Ljava/lang/Class;" } : Jvm.MethodName)) ∈ lw_all := lw_g (lw_at lw_m1 204 rfl) rfl
theorem q384 : (Jvm.Cond.fieldLink "WaterWorks$Memory" (44 : Nat) "WaterWorks$Memory" "a" "I") ∈ lw_all := lw_g (lw_at lw_m2 76 rfl) rfl
theorem q385 : (Jvm.Cond.sameField "WaterWorks$Memory" "WaterWorks$Guard" "a" "I") ∈ lw_all := lw_g (lw_at lw_m2 77 rfl) rfl
theorem q558 : (Jvm.Cond.instantiable "WaterWorks$Memory" (11 : Nat)) ∈ lw_all := lw_g (lw_at lw_m3 10 rfl) rfl
theorem q560 : (Jvm.Cond.instanceMethod ({ cls := "WaterWorks$Memory", name := "<init>", desc := "(LWaterWorks;[I)V" } : Jvm.MethodName)) ∈ lw_all := lw_g (lw_at lw_m3 12 rfl) rfl
theorem q561 : (Jvm.Cond.code ({ cls := "WaterWorks$Memory", name := "<init>", desc := "(LWaterWorks;[I)V" } : Jvm.MethodName) prog_17_method_1_code (4 : Nat) (Option.none : Option Jvm.ClassFile.FieldType)) ∈ lw_all := lw_g (lw_at lw_m3 13 rfl) rfl
theorem q562 : (Jvm.Cond.methodLink "WaterWorks$Memory" (9 : Nat) ({ cls := "WaterWorks$Guard", name := "<init>", desc := "(LWaterWorks;I[II)V" } : Jvm.MethodName)) ∈ lw_all := lw_g (lw_at lw_m3 14 rfl) rfl
theorem q563 : (Jvm.Cond.fieldLink "WaterWorks$Memory" (15 : Nat) "WaterWorks$Memory" "answers" "[I") ∈ lw_all := lw_g (lw_at lw_m3 15 rfl) rfl
theorem q565 : (Jvm.Cond.fieldLink "WaterWorks$Memory" (19 : Nat) "WaterWorks$Memory" "seconds" "[I") ∈ lw_all := lw_g (lw_at lw_m3 17 rfl) rfl
theorem q567 : (Jvm.Cond.fieldLink "WaterWorks$Memory" (22 : Nat) "WaterWorks$Memory" "by" "[Z") ∈ lw_all := lw_g (lw_at lw_m3 19 rfl) rfl
theorem q568 : (Jvm.Cond.fieldLink "WaterWorks$Memory" (3 : Nat) "WaterWorks$Memory" "this$0" "LWaterWorks;") ∈ lw_all := lw_g (lw_at lw_m3 20 rfl) rfl
theorem q569 : (Jvm.Cond.laysFinal "WaterWorks$Memory" "WaterWorks$Memory" "answers" "[I") ∈ lw_all := lw_g (lw_at lw_m3 21 rfl) rfl
theorem q570 : (Jvm.Cond.soleField "WaterWorks$Memory" "answers") ∈ lw_all := lw_g (lw_at lw_m3 22 rfl) rfl
theorem q571 : (Jvm.Cond.laysFinal "WaterWorks$Memory" "WaterWorks$Memory" "seconds" "[I") ∈ lw_all := lw_g (lw_at lw_m3 23 rfl) rfl
theorem q572 : (Jvm.Cond.soleField "WaterWorks$Memory" "seconds") ∈ lw_all := lw_g (lw_at lw_m3 24 rfl) rfl
theorem q573 : (Jvm.Cond.laysFinal "WaterWorks$Memory" "WaterWorks$Memory" "by" "[Z") ∈ lw_all := lw_g (lw_at lw_m3 25 rfl) rfl
theorem q574 : (Jvm.Cond.soleField "WaterWorks$Memory" "by") ∈ lw_all := lw_g (lw_at lw_m3 26 rfl) rfl
theorem q575 : (Jvm.Cond.laysFinal "WaterWorks$Memory" "WaterWorks$Memory" "this$0" "LWaterWorks;") ∈ lw_all := lw_g (lw_at lw_m3 27 rfl) rfl
theorem q576 : (Jvm.Cond.soleField "WaterWorks$Memory" "this$0") ∈ lw_all := lw_g (lw_at lw_m3 28 rfl) rfl
theorem q577 : (Jvm.Cond.laysFinal "WaterWorks$Memory" "WaterWorks$Guard" "number" "I") ∈ lw_all := lw_g (lw_at lw_m3 29 rfl) rfl
theorem q578 : (Jvm.Cond.laysFinal "WaterWorks$Memory" "WaterWorks$Guard" "sort" "I") ∈ lw_all := lw_g (lw_at lw_m3 30 rfl) rfl
theorem q579 : (Jvm.Cond.laysFinal "WaterWorks$Memory" "WaterWorks$Guard" "a" "I") ∈ lw_all := lw_g (lw_at lw_m3 31 rfl) rfl
theorem q580 : (Jvm.Cond.laysFinal "WaterWorks$Memory" "WaterWorks$Guard" "b" "I") ∈ lw_all := lw_g (lw_at lw_m3 32 rfl) rfl
theorem q581 : (Jvm.Cond.laysFinal "WaterWorks$Memory" "WaterWorks$Guard" "c" "I") ∈ lw_all := lw_g (lw_at lw_m3 33 rfl) rfl
theorem q582 : (Jvm.Cond.laysFinal "WaterWorks$Memory" "WaterWorks$Guard" "named" "I") ∈ lw_all := lw_g (lw_at lw_m3 34 rfl) rfl
theorem q583 : (Jvm.Cond.laysFinal "WaterWorks$Memory" "WaterWorks$Guard" "this$0" "LWaterWorks;") ∈ lw_all := lw_g (lw_at lw_m3 35 rfl) rfl
theorem q584 : (Jvm.Cond.superclass "WaterWorks$Memory" "WaterWorks$Guard") ∈ lw_all := lw_g (lw_at lw_m3 36 rfl) rfl
theorem q667 : (Jvm.Cond.fieldLinkNest "WaterWorks$Memory" (32 : Nat) "WaterWorks$Order" "station" "I" "WaterWorks") ∈ lw_tbl := lw_at lw_m3 119 rfl
theorem q670 : (Jvm.Cond.fieldLinkNest "WaterWorks$Memory" (38 : Nat) "WaterWorks$Order" "act" "I" "WaterWorks") ∈ lw_tbl := lw_at lw_m3 122 rfl
theorem q740 : (Jvm.Cond.fieldLinkNest "WaterWorks$Memory" (26 : Nat) "WaterWorks$Call" "order" "LWaterWorks$Order;" "WaterWorks") ∈ lw_tbl := lw_at lw_m3 192 rfl
theorem q757 : (Jvm.Cond.fieldLinkNest "WaterWorks$Memory" (61 : Nat) "WaterWorks$Call" "by" "Z" "WaterWorks") ∈ lw_tbl := lw_at lw_m3 209 rfl
theorem q765 : (Jvm.Cond.fieldLinkNest "WaterWorks$Memory" (55 : Nat) "WaterWorks$Call" "how" "I" "WaterWorks") ∈ lw_tbl := lw_at lw_m3 217 rfl
theorem q770 : (Jvm.Cond.fieldLinkNest "WaterWorks$Memory" (58 : Nat) "WaterWorks$Call" "answer" "I" "WaterWorks") ∈ lw_tbl := lw_at lw_m3 222 rfl
theorem q1000 : (Jvm.Cond.selects "WaterWorks$Memory" ({ cls := "java/lang/Object", name := "equals", desc := "(Ljava/lang/Object;)Z" } : Jvm.MethodName) ({ cls := "java/lang/Object", name := "equals", desc := "(Ljava/lang/Object;)Z" } : Jvm.MethodName)) ∈ lw_all := lw_g (lw_at lw_m4 212 rfl) rfl
theorem q1032 : (Jvm.Cond.selects "WaterWorks$Memory" ({ cls := "WaterWorks$Guard", name := "takenBack", desc := "(LWaterWorks$Call;)V" } : Jvm.MethodName) ({ cls := "WaterWorks$Guard", name := "takenBack", desc := "(LWaterWorks$Call;)V" } : Jvm.MethodName)) ∈ lw_all := lw_g (lw_at lw_m5 4 rfl) rfl
theorem q1046 : (Jvm.Cond.selects "WaterWorks$Memory" ({ cls := "WaterWorks$Guard", name := "told", desc := "(LWaterWorks$Call;LWaterWorks$Call;)V" } : Jvm.MethodName) ({ cls := "WaterWorks$Memory", name := "told", desc := "(LWaterWorks$Call;LWaterWorks$Call;)V" } : Jvm.MethodName)) ∈ lw_all := lw_g (lw_at lw_m5 18 rfl) rfl
theorem q1047 : (Jvm.Cond.instanceMethod ({ cls := "WaterWorks$Memory", name := "told", desc := "(LWaterWorks$Call;LWaterWorks$Call;)V" } : Jvm.MethodName)) ∈ lw_all := lw_g (lw_at lw_m5 19 rfl) rfl
theorem q1048 : (Jvm.Cond.code ({ cls := "WaterWorks$Memory", name := "told", desc := "(LWaterWorks$Call;LWaterWorks$Call;)V" } : Jvm.MethodName) prog_17_method_3_code (4 : Nat) (Option.none : Option Jvm.ClassFile.FieldType)) ∈ lw_all := lw_g (lw_at lw_m5 20 rfl) rfl
theorem q1049 : (Jvm.Cond.methodLinkNest "WaterWorks$Memory" (64 : Nat) ({ cls := "WaterWorks", name := "alike", desc := "(LWaterWorks$Call;LWaterWorks$Call;)V" } : Jvm.MethodName) "WaterWorks") ∈ lw_tbl := lw_at lw_m5 21 rfl
theorem q1107 : (Jvm.Cond.selects "WaterWorks$Memory" ({ cls := "WaterWorks$Guard", name := "begins", desc := "(LWaterWorks$Call;)V" } : Jvm.MethodName) ({ cls := "WaterWorks$Memory", name := "begins", desc := "(LWaterWorks$Call;)V" } : Jvm.MethodName)) ∈ lw_all := lw_g (lw_at lw_m5 79 rfl) rfl
theorem q1108 : (Jvm.Cond.instanceMethod ({ cls := "WaterWorks$Memory", name := "begins", desc := "(LWaterWorks$Call;)V" } : Jvm.MethodName)) ∈ lw_all := lw_g (lw_at lw_m5 80 rfl) rfl
theorem q1109 : (Jvm.Cond.code ({ cls := "WaterWorks$Memory", name := "begins", desc := "(LWaterWorks$Call;)V" } : Jvm.MethodName) prog_17_method_2_code (3 : Nat) (Option.none : Option Jvm.ClassFile.FieldType)) ∈ lw_all := lw_g (lw_at lw_m5 81 rfl) rfl
theorem q1110 : (Jvm.Cond.methodLinkNest "WaterWorks$Memory" (47 : Nat) ({ cls := "WaterWorks", name := "good", desc := "(LWaterWorks$Call;IZ)V" } : Jvm.MethodName) "WaterWorks") ∈ lw_tbl := lw_at lw_m5 82 rfl
theorem q1111 : (Jvm.Cond.methodLinkNest "WaterWorks$Memory" (51 : Nat) ({ cls := "WaterWorks", name := "goesIn", desc := "(LWaterWorks$Call;)V" } : Jvm.MethodName) "WaterWorks") ∈ lw_tbl := lw_at lw_m5 83 rfl
theorem q1146 : (Jvm.Cond.selects "WaterWorks$Memory" ({ cls := "WaterWorks$Guard", name := "newSecond", desc := "()V" } : Jvm.MethodName) ({ cls := "WaterWorks$Guard", name := "newSecond", desc := "()V" } : Jvm.MethodName)) ∈ lw_all := lw_g (lw_at lw_m5 118 rfl) rfl
theorem q1218 : (Jvm.Cond.selects "WaterWorks$Memory" ({ cls := "WaterWorks$Guard", name := "due", desc := "(LWaterWorks$Call;)V" } : Jvm.MethodName) ({ cls := "WaterWorks$Guard", name := "due", desc := "(LWaterWorks$Call;)V" } : Jvm.MethodName)) ∈ lw_all := lw_g (lw_at lw_m5 190 rfl) rfl
theorem q2127 : (Jvm.Cond.castable "WaterWorks$Memory" "WaterWorks$Guard") ∈ lw_tbl := lw_at lw_m9 139 rfl
theorem q2147 : (Jvm.Cond.castable "WaterWorks$Memory" "java/lang/Object") ∈ lw_tbl := lw_at lw_m9 159 rfl
theorem in_X12 : ∀ w ∈ wsX120, w ∈ lw_all := lw_in wsX120 [577, 578, 579, 580, 581, 582, 583, 569, 571, 573, 575] (by decide +kernel) (by decide +kernel)
/-! WaterWorks$Join -/
def RX13 : String := "WaterWorks$Join"
def TX13 : u_T := fun k => match k with
  | 0 => ("WaterWorks$Guard", "number", "I", true)
  | 1 => ("WaterWorks$Guard", "sort", "I", true)
  | 2 => ("WaterWorks$Guard", "a", "I", true)
  | 3 => ("WaterWorks$Guard", "b", "I", true)
  | 4 => ("WaterWorks$Guard", "c", "I", true)
  | 5 => ("WaterWorks$Guard", "named", "I", true)
  | 6 => ("WaterWorks$Guard", "this$0", "LWaterWorks;", true)
  | _ => ("WaterWorks$Join", "this$0", "LWaterWorks;", true)
def tyX13 : Nat → FieldType := fun k => match k with
  | 0 => .int
  | 1 => .int
  | 2 => .int
  | 3 => .int
  | 4 => .int
  | 5 => .int
  | 6 => .object "WaterWorks"
  | _ => .object "WaterWorks"
abbrev wsX130 : List Cond := u_ws RX13 TX13 8
-- two fields of one name: no nmX13
theorem tyX13_ok : ∀ k, k < 8 → parseFieldDescriptor (TX13 k).2.2.1 = some (tyX13 k) := by decide +kernel
abbrev cX13_init : ByteArray := prog_14_method_1_code
def yX13_init : MethodName := ⟨RX13, "<init>", "(LWaterWorks;)V"⟩
abbrev cX13_takenBack : ByteArray := prog_14_method_5_code
def yX13_takenBack : MethodName := ⟨RX13, "takenBack", "(LWaterWorks$Call;)V"⟩
abbrev cX13_told : ByteArray := prog_14_method_4_code
def yX13_told : MethodName := ⟨RX13, "told", "(LWaterWorks$Call;LWaterWorks$Call;)V"⟩
abbrev cX13_begins : ByteArray := prog_14_method_3_code
def yX13_begins : MethodName := ⟨RX13, "begins", "(LWaterWorks$Call;)V"⟩
abbrev cX13_leader : ByteArray := prog_14_method_2_code
def yX13_leader : MethodName := ⟨RX13, "leader", "(LWaterWorks$Call;)LWaterWorks$Call;"⟩
theorem q89 : (Jvm.Cond.initialized "WaterWorks$Join") ∈ lw_all := lw_g (lw_at lw_m1 21 rfl) rfl
theorem q158 : (Jvm.Cond.fieldLinkNest "WaterWorks$Join" (15 : Nat) "WaterWorks" "calls" "Ljava/util/ArrayList;" "WaterWorks") ∈ lw_tbl := lw_at lw_m1 90 rfl
theorem q269 : (Jvm.Cond.selects "WaterWorks$Join" ({ cls := "java/lang/Object", name := "getClass", desc := "()Ljava/lang/Class;" } : Jvm.MethodName) ({ cls := "java/lang/Object", name := "getClass", desc := "()Ljava/lang/Class;" } : Jvm.MethodName)) ∈ lw_all := lw_g (lw_at lw_m1 201 rfl) rfl
theorem q587 : (Jvm.Cond.instantiable "WaterWorks$Join" (8 : Nat)) ∈ lw_all := lw_g (lw_at lw_m3 39 rfl) rfl
theorem q589 : (Jvm.Cond.instanceMethod ({ cls := "WaterWorks$Join", name := "<init>", desc := "(LWaterWorks;)V" } : Jvm.MethodName)) ∈ lw_all := lw_g (lw_at lw_m3 41 rfl) rfl
theorem q590 : (Jvm.Cond.code ({ cls := "WaterWorks$Join", name := "<init>", desc := "(LWaterWorks;)V" } : Jvm.MethodName) prog_14_method_1_code (2 : Nat) (Option.none : Option Jvm.ClassFile.FieldType)) ∈ lw_all := lw_g (lw_at lw_m3 42 rfl) rfl
theorem q591 : (Jvm.Cond.methodLink "WaterWorks$Join" (9 : Nat) ({ cls := "WaterWorks$Guard", name := "<init>", desc := "(LWaterWorks;I[II)V" } : Jvm.MethodName)) ∈ lw_all := lw_g (lw_at lw_m3 43 rfl) rfl
theorem q592 : (Jvm.Cond.fieldLink "WaterWorks$Join" (3 : Nat) "WaterWorks$Join" "this$0" "LWaterWorks;") ∈ lw_all := lw_g (lw_at lw_m3 44 rfl) rfl
theorem q593 : (Jvm.Cond.laysFinal "WaterWorks$Join" "WaterWorks$Join" "this$0" "LWaterWorks;") ∈ lw_all := lw_g (lw_at lw_m3 45 rfl) rfl
theorem q594 : (Jvm.Cond.soleField "WaterWorks$Join" "this$0") ∈ lw_all := lw_g (lw_at lw_m3 46 rfl) rfl
theorem q595 : (Jvm.Cond.laysFinal "WaterWorks$Join" "WaterWorks$Guard" "number" "I") ∈ lw_all := lw_g (lw_at lw_m3 47 rfl) rfl
theorem q596 : (Jvm.Cond.laysFinal "WaterWorks$Join" "WaterWorks$Guard" "sort" "I") ∈ lw_all := lw_g (lw_at lw_m3 48 rfl) rfl
theorem q597 : (Jvm.Cond.laysFinal "WaterWorks$Join" "WaterWorks$Guard" "a" "I") ∈ lw_all := lw_g (lw_at lw_m3 49 rfl) rfl
theorem q598 : (Jvm.Cond.laysFinal "WaterWorks$Join" "WaterWorks$Guard" "b" "I") ∈ lw_all := lw_g (lw_at lw_m3 50 rfl) rfl
theorem q599 : (Jvm.Cond.laysFinal "WaterWorks$Join" "WaterWorks$Guard" "c" "I") ∈ lw_all := lw_g (lw_at lw_m3 51 rfl) rfl
theorem q600 : (Jvm.Cond.laysFinal "WaterWorks$Join" "WaterWorks$Guard" "named" "I") ∈ lw_all := lw_g (lw_at lw_m3 52 rfl) rfl
theorem q601 : (Jvm.Cond.laysFinal "WaterWorks$Join" "WaterWorks$Guard" "this$0" "LWaterWorks;") ∈ lw_all := lw_g (lw_at lw_m3 53 rfl) rfl
theorem q602 : (Jvm.Cond.superclass "WaterWorks$Join" "WaterWorks$Guard") ∈ lw_all := lw_g (lw_at lw_m3 54 rfl) rfl
theorem q730 : (Jvm.Cond.fieldLinkNest "WaterWorks$Join" (68 : Nat) "WaterWorks$Call" "number" "I" "WaterWorks") ∈ lw_tbl := lw_at lw_m3 182 rfl
theorem q741 : (Jvm.Cond.fieldLinkNest "WaterWorks$Join" (43 : Nat) "WaterWorks$Call" "order" "LWaterWorks$Order;" "WaterWorks") ∈ lw_tbl := lw_at lw_m3 193 rfl
theorem q747 : (Jvm.Cond.fieldLinkNest "WaterWorks$Join" (31 : Nat) "WaterWorks$Call" "guard" "LWaterWorks$Guard;" "WaterWorks") ∈ lw_tbl := lw_at lw_m3 199 rfl
theorem q754 : (Jvm.Cond.fieldLinkNest "WaterWorks$Join" (39 : Nat) "WaterWorks$Call" "leader" "LWaterWorks$Call;" "WaterWorks") ∈ lw_tbl := lw_at lw_m3 206 rfl
theorem q775 : (Jvm.Cond.fieldLinkNest "WaterWorks$Join" (60 : Nat) "WaterWorks$Call" "state" "I" "WaterWorks") ∈ lw_tbl := lw_at lw_m3 227 rfl
theorem q997 : (Jvm.Cond.selects "WaterWorks$Join" ({ cls := "java/lang/Object", name := "equals", desc := "(Ljava/lang/Object;)Z" } : Jvm.MethodName) ({ cls := "java/lang/Object", name := "equals", desc := "(Ljava/lang/Object;)Z" } : Jvm.MethodName)) ∈ lw_all := lw_g (lw_at lw_m4 209 rfl) rfl
theorem q1021 : (Jvm.Cond.selects "WaterWorks$Join" ({ cls := "WaterWorks$Guard", name := "takenBack", desc := "(LWaterWorks$Call;)V" } : Jvm.MethodName) ({ cls := "WaterWorks$Join", name := "takenBack", desc := "(LWaterWorks$Call;)V" } : Jvm.MethodName)) ∈ lw_all := lw_g (lw_at lw_m4 233 rfl) rfl
theorem q1022 : (Jvm.Cond.instanceMethod ({ cls := "WaterWorks$Join", name := "takenBack", desc := "(LWaterWorks$Call;)V" } : Jvm.MethodName)) ∈ lw_all := lw_g (lw_at lw_m4 234 rfl) rfl
theorem q1023 : (Jvm.Cond.code ({ cls := "WaterWorks$Join", name := "takenBack", desc := "(LWaterWorks$Call;)V" } : Jvm.MethodName) prog_14_method_5_code (3 : Nat) (Option.none : Option Jvm.ClassFile.FieldType)) ∈ lw_all := lw_g (lw_at lw_m4 235 rfl) rfl
theorem q1024 : (Jvm.Cond.methodLink "WaterWorks$Join" (19 : Nat) ({ cls := "java/util/ArrayList", name := "size", desc := "()I" } : Jvm.MethodName)) ∈ lw_all := lw_g (lw_at lw_m4 236 rfl) rfl
theorem q1025 : (Jvm.Cond.methodLink "WaterWorks$Join" (25 : Nat) ({ cls := "java/util/ArrayList", name := "get", desc := "(I)Ljava/lang/Object;" } : Jvm.MethodName)) ∈ lw_all := lw_g (lw_at lw_m4 237 rfl) rfl
theorem q1026 : (Jvm.Cond.classLink "WaterWorks$Join" (29 : Nat) "WaterWorks$Call") ∈ lw_all := lw_g (lw_at lw_m4 238 rfl) rfl
theorem q1027 : (Jvm.Cond.methodLink "WaterWorks$Join" (35 : Nat) ({ cls := "WaterWorks$Call", name := "isUnderWay", desc := "()Z" } : Jvm.MethodName)) ∈ lw_all := lw_g (lw_at lw_m4 239 rfl) rfl
theorem q1028 : (Jvm.Cond.methodLink "WaterWorks$Join" (71 : Nat) ({ cls := "WaterWorks$Join", name := "refuses", desc := "(LWaterWorks$Call;I)V" } : Jvm.MethodName)) ∈ lw_all := lw_g (lw_at lw_m5 0 rfl) rfl
theorem q1029 : (Jvm.Cond.sameMethod "WaterWorks$Join" "WaterWorks$Guard" "refuses" "(LWaterWorks$Call;I)V") ∈ lw_all := lw_g (lw_at lw_m5 1 rfl) rfl
theorem q1030 : (Jvm.Cond.selects "WaterWorks$Join" ({ cls := "WaterWorks$Join", name := "refuses", desc := "(LWaterWorks$Call;I)V" } : Jvm.MethodName) ({ cls := "WaterWorks$Guard", name := "refuses", desc := "(LWaterWorks$Call;I)V" } : Jvm.MethodName)) ∈ lw_all := lw_g (lw_at lw_m5 2 rfl) rfl
theorem q1041 : (Jvm.Cond.selects "WaterWorks$Join" ({ cls := "WaterWorks$Guard", name := "told", desc := "(LWaterWorks$Call;LWaterWorks$Call;)V" } : Jvm.MethodName) ({ cls := "WaterWorks$Join", name := "told", desc := "(LWaterWorks$Call;LWaterWorks$Call;)V" } : Jvm.MethodName)) ∈ lw_all := lw_g (lw_at lw_m5 13 rfl) rfl
theorem q1042 : (Jvm.Cond.instanceMethod ({ cls := "WaterWorks$Join", name := "told", desc := "(LWaterWorks$Call;LWaterWorks$Call;)V" } : Jvm.MethodName)) ∈ lw_all := lw_g (lw_at lw_m5 14 rfl) rfl
theorem q1043 : (Jvm.Cond.code ({ cls := "WaterWorks$Join", name := "told", desc := "(LWaterWorks$Call;LWaterWorks$Call;)V" } : Jvm.MethodName) prog_14_method_4_code (4 : Nat) (Option.none : Option Jvm.ClassFile.FieldType)) ∈ lw_all := lw_g (lw_at lw_m5 15 rfl) rfl
theorem q1044 : (Jvm.Cond.methodLinkNest "WaterWorks$Join" (64 : Nat) ({ cls := "WaterWorks", name := "alike", desc := "(LWaterWorks$Call;LWaterWorks$Call;)V" } : Jvm.MethodName) "WaterWorks") ∈ lw_tbl := lw_at lw_m5 16 rfl
theorem q1088 : (Jvm.Cond.selects "WaterWorks$Join" ({ cls := "WaterWorks$Guard", name := "begins", desc := "(LWaterWorks$Call;)V" } : Jvm.MethodName) ({ cls := "WaterWorks$Join", name := "begins", desc := "(LWaterWorks$Call;)V" } : Jvm.MethodName)) ∈ lw_all := lw_g (lw_at lw_m5 60 rfl) rfl
theorem q1089 : (Jvm.Cond.instanceMethod ({ cls := "WaterWorks$Join", name := "begins", desc := "(LWaterWorks$Call;)V" } : Jvm.MethodName)) ∈ lw_all := lw_g (lw_at lw_m5 61 rfl) rfl
theorem q1090 : (Jvm.Cond.code ({ cls := "WaterWorks$Join", name := "begins", desc := "(LWaterWorks$Call;)V" } : Jvm.MethodName) prog_14_method_3_code (2 : Nat) (Option.none : Option Jvm.ClassFile.FieldType)) ∈ lw_all := lw_g (lw_at lw_m5 62 rfl) rfl
theorem q1091 : (Jvm.Cond.methodLink "WaterWorks$Join" (53 : Nat) ({ cls := "WaterWorks$Join", name := "leader", desc := "(LWaterWorks$Call;)LWaterWorks$Call;" } : Jvm.MethodName)) ∈ lw_all := lw_g (lw_at lw_m5 63 rfl) rfl
theorem q1092 : (Jvm.Cond.privateMethod ({ cls := "WaterWorks$Join", name := "leader", desc := "(LWaterWorks$Call;)LWaterWorks$Call;" } : Jvm.MethodName)) ∈ lw_tbl := lw_at lw_m5 64 rfl
theorem q1093 : (Jvm.Cond.instanceMethod ({ cls := "WaterWorks$Join", name := "leader", desc := "(LWaterWorks$Call;)LWaterWorks$Call;" } : Jvm.MethodName)) ∈ lw_all := lw_g (lw_at lw_m5 65 rfl) rfl
theorem q1094 : (Jvm.Cond.code ({ cls := "WaterWorks$Join", name := "leader", desc := "(LWaterWorks$Call;)LWaterWorks$Call;" } : Jvm.MethodName) prog_14_method_2_code (4 : Nat) (Option.some (Jvm.ClassFile.FieldType.object "WaterWorks$Call"))) ∈ lw_all := lw_g (lw_at lw_m5 66 rfl) rfl
theorem q1095 : (Jvm.Cond.methodLink "WaterWorks$Join" (47 : Nat) ({ cls := "WaterWorks$Order", name := "isLike", desc := "(LWaterWorks$Order;)Z" } : Jvm.MethodName)) ∈ lw_all := lw_g (lw_at lw_m5 67 rfl) rfl
theorem q1099 : (Jvm.Cond.methodLinkNest "WaterWorks$Join" (56 : Nat) ({ cls := "WaterWorks", name := "goesIn", desc := "(LWaterWorks$Call;)V" } : Jvm.MethodName) "WaterWorks") ∈ lw_tbl := lw_at lw_m5 71 rfl
theorem q1141 : (Jvm.Cond.selects "WaterWorks$Join" ({ cls := "WaterWorks$Guard", name := "newSecond", desc := "()V" } : Jvm.MethodName) ({ cls := "WaterWorks$Guard", name := "newSecond", desc := "()V" } : Jvm.MethodName)) ∈ lw_all := lw_g (lw_at lw_m5 113 rfl) rfl
theorem q1216 : (Jvm.Cond.selects "WaterWorks$Join" ({ cls := "WaterWorks$Guard", name := "due", desc := "(LWaterWorks$Call;)V" } : Jvm.MethodName) ({ cls := "WaterWorks$Guard", name := "due", desc := "(LWaterWorks$Call;)V" } : Jvm.MethodName)) ∈ lw_all := lw_g (lw_at lw_m5 188 rfl) rfl
theorem q2125 : (Jvm.Cond.castable "WaterWorks$Join" "WaterWorks$Guard") ∈ lw_tbl := lw_at lw_m9 137 rfl
theorem q2148 : (Jvm.Cond.castable "WaterWorks$Join" "java/lang/Object") ∈ lw_tbl := lw_at lw_m9 160 rfl
theorem in_X13 : ∀ w ∈ wsX130, w ∈ lw_all := lw_in wsX130 [595, 596, 597, 598, 599, 600, 601, 593] (by decide +kernel) (by decide +kernel)
/-! WaterWorks$Translator -/
def RX14 : String := "WaterWorks$Translator"
def TX14 : u_T := fun k => match k with
  | 0 => ("WaterWorks$Guard", "number", "I", true)
  | 1 => ("WaterWorks$Guard", "sort", "I", true)
  | 2 => ("WaterWorks$Guard", "a", "I", true)
  | 3 => ("WaterWorks$Guard", "b", "I", true)
  | 4 => ("WaterWorks$Guard", "c", "I", true)
  | 5 => ("WaterWorks$Guard", "named", "I", true)
  | 6 => ("WaterWorks$Guard", "this$0", "LWaterWorks;", true)
  | _ => ("WaterWorks$Translator", "this$0", "LWaterWorks;", true)
def tyX14 : Nat → FieldType := fun k => match k with
  | 0 => .int
  | 1 => .int
  | 2 => .int
  | 3 => .int
  | 4 => .int
  | 5 => .int
  | 6 => .object "WaterWorks"
  | _ => .object "WaterWorks"
abbrev wsX140 : List Cond := u_ws RX14 TX14 8
-- two fields of one name: no nmX14
theorem tyX14_ok : ∀ k, k < 8 → parseFieldDescriptor (TX14 k).2.2.1 = some (tyX14 k) := by decide +kernel
abbrev cX14_init : ByteArray := prog_22_method_1_code
def yX14_init : MethodName := ⟨RX14, "<init>", "(LWaterWorks;[II)V"⟩
abbrev cX14_told : ByteArray := prog_22_method_2_code
def yX14_told : MethodName := ⟨RX14, "told", "(LWaterWorks$Call;LWaterWorks$Call;)V"⟩
theorem q90 : (Jvm.Cond.initialized "WaterWorks$Translator") ∈ lw_all := lw_g (lw_at lw_m1 22 rfl) rfl
theorem q277 : (Jvm.Cond.selects "WaterWorks$Translator" ({ cls := "java/lang/Object", name := "getClass", desc := "()Ljava/lang/Class;" } : Jvm.MethodName) ({ cls := "java/lang/Object", name := "getClass", desc := "()Ljava/lang/Class;" } : Jvm.MethodName)) ∈ lw_all := lw_g (lw_at lw_m1 209 rfl) rfl
theorem q370 : (Jvm.Cond.fieldLink "WaterWorks$Translator" (27 : Nat) "WaterWorks$Translator" "number" "I") ∈ lw_all := lw_g (lw_at lw_m2 62 rfl) rfl
theorem q371 : (Jvm.Cond.sameField "WaterWorks$Translator" "WaterWorks$Guard" "number" "I") ∈ lw_all := lw_g (lw_at lw_m2 63 rfl) rfl
theorem q393 : (Jvm.Cond.fieldLink "WaterWorks$Translator" (23 : Nat) "WaterWorks$Translator" "b" "I") ∈ lw_all := lw_g (lw_at lw_m2 85 rfl) rfl
theorem q394 : (Jvm.Cond.sameField "WaterWorks$Translator" "WaterWorks$Guard" "b" "I") ∈ lw_all := lw_g (lw_at lw_m2 86 rfl) rfl
theorem q604 : (Jvm.Cond.instantiable "WaterWorks$Translator" (8 : Nat)) ∈ lw_all := lw_g (lw_at lw_m3 56 rfl) rfl
theorem q606 : (Jvm.Cond.instanceMethod ({ cls := "WaterWorks$Translator", name := "<init>", desc := "(LWaterWorks;[II)V" } : Jvm.MethodName)) ∈ lw_all := lw_g (lw_at lw_m3 58 rfl) rfl
theorem q607 : (Jvm.Cond.code ({ cls := "WaterWorks$Translator", name := "<init>", desc := "(LWaterWorks;[II)V" } : Jvm.MethodName) prog_22_method_1_code (4 : Nat) (Option.none : Option Jvm.ClassFile.FieldType)) ∈ lw_all := lw_g (lw_at lw_m3 59 rfl) rfl
theorem q608 : (Jvm.Cond.methodLink "WaterWorks$Translator" (9 : Nat) ({ cls := "WaterWorks$Guard", name := "<init>", desc := "(LWaterWorks;I[II)V" } : Jvm.MethodName)) ∈ lw_all := lw_g (lw_at lw_m3 60 rfl) rfl
theorem q609 : (Jvm.Cond.fieldLink "WaterWorks$Translator" (3 : Nat) "WaterWorks$Translator" "this$0" "LWaterWorks;") ∈ lw_all := lw_g (lw_at lw_m3 61 rfl) rfl
theorem q610 : (Jvm.Cond.laysFinal "WaterWorks$Translator" "WaterWorks$Translator" "this$0" "LWaterWorks;") ∈ lw_all := lw_g (lw_at lw_m3 62 rfl) rfl
theorem q611 : (Jvm.Cond.soleField "WaterWorks$Translator" "this$0") ∈ lw_all := lw_g (lw_at lw_m3 63 rfl) rfl
theorem q612 : (Jvm.Cond.laysFinal "WaterWorks$Translator" "WaterWorks$Guard" "number" "I") ∈ lw_all := lw_g (lw_at lw_m3 64 rfl) rfl
theorem q613 : (Jvm.Cond.laysFinal "WaterWorks$Translator" "WaterWorks$Guard" "sort" "I") ∈ lw_all := lw_g (lw_at lw_m3 65 rfl) rfl
theorem q614 : (Jvm.Cond.laysFinal "WaterWorks$Translator" "WaterWorks$Guard" "a" "I") ∈ lw_all := lw_g (lw_at lw_m3 66 rfl) rfl
theorem q615 : (Jvm.Cond.laysFinal "WaterWorks$Translator" "WaterWorks$Guard" "b" "I") ∈ lw_all := lw_g (lw_at lw_m3 67 rfl) rfl
theorem q616 : (Jvm.Cond.laysFinal "WaterWorks$Translator" "WaterWorks$Guard" "c" "I") ∈ lw_all := lw_g (lw_at lw_m3 68 rfl) rfl
theorem q617 : (Jvm.Cond.laysFinal "WaterWorks$Translator" "WaterWorks$Guard" "named" "I") ∈ lw_all := lw_g (lw_at lw_m3 69 rfl) rfl
theorem q618 : (Jvm.Cond.laysFinal "WaterWorks$Translator" "WaterWorks$Guard" "this$0" "LWaterWorks;") ∈ lw_all := lw_g (lw_at lw_m3 70 rfl) rfl
theorem q619 : (Jvm.Cond.superclass "WaterWorks$Translator" "WaterWorks$Guard") ∈ lw_all := lw_g (lw_at lw_m3 71 rfl) rfl
theorem q784 : (Jvm.Cond.fieldLinkNest "WaterWorks$Translator" (34 : Nat) "WaterWorks$Call" "failure" "LWaterWorks$Failure;" "WaterWorks") ∈ lw_tbl := lw_at lw_m3 236 rfl
theorem q871 : (Jvm.Cond.fieldLinkNest "WaterWorks$Translator" (40 : Nat) "WaterWorks$Failure" "cause" "LWaterWorks$Failure;" "WaterWorks") ∈ lw_tbl := lw_at lw_m4 83 rfl
theorem q1005 : (Jvm.Cond.selects "WaterWorks$Translator" ({ cls := "java/lang/Object", name := "equals", desc := "(Ljava/lang/Object;)Z" } : Jvm.MethodName) ({ cls := "java/lang/Object", name := "equals", desc := "(Ljava/lang/Object;)Z" } : Jvm.MethodName)) ∈ lw_all := lw_g (lw_at lw_m4 217 rfl) rfl
theorem q1034 : (Jvm.Cond.selects "WaterWorks$Translator" ({ cls := "WaterWorks$Guard", name := "takenBack", desc := "(LWaterWorks$Call;)V" } : Jvm.MethodName) ({ cls := "WaterWorks$Guard", name := "takenBack", desc := "(LWaterWorks$Call;)V" } : Jvm.MethodName)) ∈ lw_all := lw_g (lw_at lw_m5 6 rfl) rfl
theorem q1061 : (Jvm.Cond.selects "WaterWorks$Translator" ({ cls := "WaterWorks$Guard", name := "told", desc := "(LWaterWorks$Call;LWaterWorks$Call;)V" } : Jvm.MethodName) ({ cls := "WaterWorks$Translator", name := "told", desc := "(LWaterWorks$Call;LWaterWorks$Call;)V" } : Jvm.MethodName)) ∈ lw_all := lw_g (lw_at lw_m5 33 rfl) rfl
theorem q1062 : (Jvm.Cond.instanceMethod ({ cls := "WaterWorks$Translator", name := "told", desc := "(LWaterWorks$Call;LWaterWorks$Call;)V" } : Jvm.MethodName)) ∈ lw_all := lw_g (lw_at lw_m5 34 rfl) rfl
theorem q1063 : (Jvm.Cond.code ({ cls := "WaterWorks$Translator", name := "told", desc := "(LWaterWorks$Call;LWaterWorks$Call;)V" } : Jvm.MethodName) prog_22_method_2_code (4 : Nat) (Option.none : Option Jvm.ClassFile.FieldType)) ∈ lw_all := lw_g (lw_at lw_m5 35 rfl) rfl
theorem q1064 : (Jvm.Cond.methodLink "WaterWorks$Translator" (15 : Nat) ({ cls := "WaterWorks$Translator", name := "names", desc := "(LWaterWorks$Call;)Z" } : Jvm.MethodName)) ∈ lw_all := lw_g (lw_at lw_m5 36 rfl) rfl
theorem q1065 : (Jvm.Cond.sameMethod "WaterWorks$Translator" "WaterWorks$Guard" "names" "(LWaterWorks$Call;)Z") ∈ lw_all := lw_g (lw_at lw_m5 37 rfl) rfl
theorem q1066 : (Jvm.Cond.selects "WaterWorks$Translator" ({ cls := "WaterWorks$Translator", name := "names", desc := "(LWaterWorks$Call;)Z" } : Jvm.MethodName) ({ cls := "WaterWorks$Guard", name := "names", desc := "(LWaterWorks$Call;)Z" } : Jvm.MethodName)) ∈ lw_all := lw_g (lw_at lw_m5 38 rfl) rfl
theorem q1067 : (Jvm.Cond.methodLinkNest "WaterWorks$Translator" (19 : Nat) ({ cls := "WaterWorks", name := "alike", desc := "(LWaterWorks$Call;LWaterWorks$Call;)V" } : Jvm.MethodName) "WaterWorks") ∈ lw_tbl := lw_at lw_m5 39 rfl
theorem q1068 : (Jvm.Cond.methodLinkNest "WaterWorks$Translator" (30 : Nat) ({ cls := "WaterWorks", name := "failed", desc := "(III)LWaterWorks$Failure;" } : Jvm.MethodName) "WaterWorks") ∈ lw_tbl := lw_at lw_m5 40 rfl
theorem q1069 : (Jvm.Cond.methodLinkNest "WaterWorks$Translator" (45 : Nat) ({ cls := "WaterWorks", name := "fails", desc := "(LWaterWorks$Call;LWaterWorks$Failure;)V" } : Jvm.MethodName) "WaterWorks") ∈ lw_tbl := lw_at lw_m5 41 rfl
theorem q1113 : (Jvm.Cond.selects "WaterWorks$Translator" ({ cls := "WaterWorks$Guard", name := "begins", desc := "(LWaterWorks$Call;)V" } : Jvm.MethodName) ({ cls := "WaterWorks$Guard", name := "begins", desc := "(LWaterWorks$Call;)V" } : Jvm.MethodName)) ∈ lw_all := lw_g (lw_at lw_m5 85 rfl) rfl
theorem q1148 : (Jvm.Cond.selects "WaterWorks$Translator" ({ cls := "WaterWorks$Guard", name := "newSecond", desc := "()V" } : Jvm.MethodName) ({ cls := "WaterWorks$Guard", name := "newSecond", desc := "()V" } : Jvm.MethodName)) ∈ lw_all := lw_g (lw_at lw_m5 120 rfl) rfl
theorem q1223 : (Jvm.Cond.selects "WaterWorks$Translator" ({ cls := "WaterWorks$Guard", name := "due", desc := "(LWaterWorks$Call;)V" } : Jvm.MethodName) ({ cls := "WaterWorks$Guard", name := "due", desc := "(LWaterWorks$Call;)V" } : Jvm.MethodName)) ∈ lw_all := lw_g (lw_at lw_m5 195 rfl) rfl
theorem q2129 : (Jvm.Cond.castable "WaterWorks$Translator" "WaterWorks$Guard") ∈ lw_tbl := lw_at lw_m9 141 rfl
theorem q2149 : (Jvm.Cond.castable "WaterWorks$Translator" "java/lang/Object") ∈ lw_tbl := lw_at lw_m9 161 rfl
theorem in_X14 : ∀ w ∈ wsX140, w ∈ lw_all := lw_in wsX140 [612, 613, 614, 615, 616, 617, 618, 610] (by decide +kernel) (by decide +kernel)
/-! WaterWorks$Order -/
def RX15 : String := "WaterWorks$Order"
def TX15 : u_T := fun k => match k with
  | 0 => ("WaterWorks$Order", "number", "I", true)
  | 1 => ("WaterWorks$Order", "station", "I", true)
  | 2 => ("WaterWorks$Order", "act", "I", true)
  | 3 => ("WaterWorks$Order", "v", "I", true)
  | 4 => ("WaterWorks$Order", "key", "I", true)
  | 5 => ("WaterWorks$Order", "began", "I", true)
  | 6 => ("WaterWorks$Order", "tower", "[LWaterWorks$Guard;", true)
  | 7 => ("WaterWorks$Order", "first", "LWaterWorks$Call;", false)
  | 8 => ("WaterWorks$Order", "cancelled", "Z", false)
  | _ => ("WaterWorks$Order", "ended", "I", false)
def tyX15 : Nat → FieldType := fun k => match k with
  | 0 => .int
  | 1 => .int
  | 2 => .int
  | 3 => .int
  | 4 => .int
  | 5 => .int
  | 6 => .array (.object "WaterWorks$Guard")
  | 7 => .object "WaterWorks$Call"
  | 8 => .boolean
  | _ => .int
abbrev wsX150 : List Cond := u_ws RX15 TX15 10
theorem nmX15 : ∀ a, a < 10 → ∀ b, b < 10 → a ≠ b → (TX15 a).2.1 ≠ (TX15 b).2.1 := by decide +kernel
theorem tyX15_ok : ∀ k, k < 10 → parseFieldDescriptor (TX15 k).2.2.1 = some (tyX15 k) := by decide +kernel
abbrev cX15_init : ByteArray := prog_18_method_1_code
def yX15_init : MethodName := ⟨RX15, "<init>", "(I[LWaterWorks$Guard;IIIII)V"⟩
abbrev cX15_isLike : ByteArray := prog_18_method_2_code
def yX15_isLike : MethodName := ⟨RX15, "isLike", "(LWaterWorks$Order;)Z"⟩
abbrev cX15_outcome : ByteArray := prog_18_method_3_code
def yX15_outcome : MethodName := ⟨RX15, "outcome", "()I"⟩
theorem q93 : (Jvm.Cond.initialized "WaterWorks$Order") ∈ lw_all := lw_g (lw_at lw_m1 25 rfl) rfl
theorem q273 : (Jvm.Cond.selects "WaterWorks$Order" ({ cls := "java/lang/Object", name := "getClass", desc := "()Ljava/lang/Class;" } : Jvm.MethodName) ({ cls := "java/lang/Object", name := "getClass", desc := "()Ljava/lang/Class;" } : Jvm.MethodName)) ∈ lw_all := lw_g (lw_at lw_m1 205 rfl) rfl
theorem q657 : (Jvm.Cond.instantiable "WaterWorks$Order" (10 : Nat)) ∈ lw_all := lw_g (lw_at lw_m3 109 rfl) rfl
theorem q660 : (Jvm.Cond.instanceMethod ({ cls := "WaterWorks$Order", name := "<init>", desc := "(I[LWaterWorks$Guard;IIIII)V" } : Jvm.MethodName)) ∈ lw_all := lw_g (lw_at lw_m3 112 rfl) rfl
theorem q661 : (Jvm.Cond.code ({ cls := "WaterWorks$Order", name := "<init>", desc := "(I[LWaterWorks$Guard;IIIII)V" } : Jvm.MethodName) prog_18_method_1_code (8 : Nat) (Option.none : Option Jvm.ClassFile.FieldType)) ∈ lw_all := lw_g (lw_at lw_m3 113 rfl) rfl
theorem q662 : (Jvm.Cond.methodLink "WaterWorks$Order" (3 : Nat) ({ cls := "java/lang/Object", name := "<init>", desc := "()V" } : Jvm.MethodName)) ∈ lw_all := lw_g (lw_at lw_m3 114 rfl) rfl
theorem q663 : (Jvm.Cond.fieldLink "WaterWorks$Order" (15 : Nat) "WaterWorks$Order" "number" "I") ∈ lw_all := lw_g (lw_at lw_m3 115 rfl) rfl
theorem q666 : (Jvm.Cond.fieldLink "WaterWorks$Order" (22 : Nat) "WaterWorks$Order" "station" "I") ∈ lw_all := lw_g (lw_at lw_m3 118 rfl) rfl
theorem q669 : (Jvm.Cond.fieldLink "WaterWorks$Order" (25 : Nat) "WaterWorks$Order" "act" "I") ∈ lw_all := lw_g (lw_at lw_m3 121 rfl) rfl
theorem q672 : (Jvm.Cond.fieldLink "WaterWorks$Order" (28 : Nat) "WaterWorks$Order" "v" "I") ∈ lw_all := lw_g (lw_at lw_m3 124 rfl) rfl
theorem q675 : (Jvm.Cond.fieldLink "WaterWorks$Order" (31 : Nat) "WaterWorks$Order" "key" "I") ∈ lw_all := lw_g (lw_at lw_m3 127 rfl) rfl
theorem q677 : (Jvm.Cond.fieldLink "WaterWorks$Order" (34 : Nat) "WaterWorks$Order" "began" "I") ∈ lw_all := lw_g (lw_at lw_m3 129 rfl) rfl
theorem q680 : (Jvm.Cond.fieldLink "WaterWorks$Order" (18 : Nat) "WaterWorks$Order" "tower" "[LWaterWorks$Guard;") ∈ lw_all := lw_g (lw_at lw_m3 132 rfl) rfl
theorem q682 : (Jvm.Cond.fieldLink "WaterWorks$Order" (41 : Nat) "WaterWorks$Order" "first" "LWaterWorks$Call;") ∈ lw_all := lw_g (lw_at lw_m3 134 rfl) rfl
theorem q684 : (Jvm.Cond.fieldLink "WaterWorks$Order" (37 : Nat) "WaterWorks$Order" "cancelled" "Z") ∈ lw_all := lw_g (lw_at lw_m3 136 rfl) rfl
theorem q686 : (Jvm.Cond.fieldLink "WaterWorks$Order" (9 : Nat) "WaterWorks$Order" "ended" "I") ∈ lw_all := lw_g (lw_at lw_m3 138 rfl) rfl
theorem q688 : (Jvm.Cond.laysFinal "WaterWorks$Order" "WaterWorks$Order" "number" "I") ∈ lw_all := lw_g (lw_at lw_m3 140 rfl) rfl
theorem q689 : (Jvm.Cond.soleField "WaterWorks$Order" "number") ∈ lw_all := lw_g (lw_at lw_m3 141 rfl) rfl
theorem q690 : (Jvm.Cond.laysFinal "WaterWorks$Order" "WaterWorks$Order" "station" "I") ∈ lw_all := lw_g (lw_at lw_m3 142 rfl) rfl
theorem q691 : (Jvm.Cond.soleField "WaterWorks$Order" "station") ∈ lw_all := lw_g (lw_at lw_m3 143 rfl) rfl
theorem q692 : (Jvm.Cond.laysFinal "WaterWorks$Order" "WaterWorks$Order" "act" "I") ∈ lw_all := lw_g (lw_at lw_m3 144 rfl) rfl
theorem q693 : (Jvm.Cond.soleField "WaterWorks$Order" "act") ∈ lw_all := lw_g (lw_at lw_m3 145 rfl) rfl
theorem q694 : (Jvm.Cond.laysFinal "WaterWorks$Order" "WaterWorks$Order" "v" "I") ∈ lw_all := lw_g (lw_at lw_m3 146 rfl) rfl
theorem q695 : (Jvm.Cond.soleField "WaterWorks$Order" "v") ∈ lw_all := lw_g (lw_at lw_m3 147 rfl) rfl
theorem q696 : (Jvm.Cond.laysFinal "WaterWorks$Order" "WaterWorks$Order" "key" "I") ∈ lw_all := lw_g (lw_at lw_m3 148 rfl) rfl
theorem q697 : (Jvm.Cond.soleField "WaterWorks$Order" "key") ∈ lw_all := lw_g (lw_at lw_m3 149 rfl) rfl
theorem q698 : (Jvm.Cond.laysFinal "WaterWorks$Order" "WaterWorks$Order" "began" "I") ∈ lw_all := lw_g (lw_at lw_m3 150 rfl) rfl
theorem q699 : (Jvm.Cond.soleField "WaterWorks$Order" "began") ∈ lw_all := lw_g (lw_at lw_m3 151 rfl) rfl
theorem q700 : (Jvm.Cond.laysFinal "WaterWorks$Order" "WaterWorks$Order" "tower" "[LWaterWorks$Guard;") ∈ lw_all := lw_g (lw_at lw_m3 152 rfl) rfl
theorem q701 : (Jvm.Cond.soleField "WaterWorks$Order" "tower") ∈ lw_all := lw_g (lw_at lw_m3 153 rfl) rfl
theorem q702 : (Jvm.Cond.lays "WaterWorks$Order" "WaterWorks$Order" "first" "LWaterWorks$Call;") ∈ lw_all := lw_g (lw_at lw_m3 154 rfl) rfl
theorem q703 : (Jvm.Cond.soleField "WaterWorks$Order" "first") ∈ lw_all := lw_g (lw_at lw_m3 155 rfl) rfl
theorem q704 : (Jvm.Cond.lays "WaterWorks$Order" "WaterWorks$Order" "cancelled" "Z") ∈ lw_all := lw_g (lw_at lw_m3 156 rfl) rfl
theorem q705 : (Jvm.Cond.soleField "WaterWorks$Order" "cancelled") ∈ lw_all := lw_g (lw_at lw_m3 157 rfl) rfl
theorem q706 : (Jvm.Cond.lays "WaterWorks$Order" "WaterWorks$Order" "ended" "I") ∈ lw_all := lw_g (lw_at lw_m3 158 rfl) rfl
theorem q707 : (Jvm.Cond.soleField "WaterWorks$Order" "ended") ∈ lw_all := lw_g (lw_at lw_m3 159 rfl) rfl
theorem q708 : (Jvm.Cond.superclass "WaterWorks$Order" "java/lang/Object") ∈ lw_all := lw_g (lw_at lw_m3 160 rfl) rfl
theorem q756 : (Jvm.Cond.fieldLinkNest "WaterWorks$Order" (50 : Nat) "WaterWorks$Call" "by" "Z" "WaterWorks") ∈ lw_tbl := lw_at lw_m3 208 rfl
theorem q764 : (Jvm.Cond.fieldLinkNest "WaterWorks$Order" (45 : Nat) "WaterWorks$Call" "how" "I" "WaterWorks") ∈ lw_tbl := lw_at lw_m3 216 rfl
theorem q1001 : (Jvm.Cond.selects "WaterWorks$Order" ({ cls := "java/lang/Object", name := "equals", desc := "(Ljava/lang/Object;)Z" } : Jvm.MethodName) ({ cls := "java/lang/Object", name := "equals", desc := "(Ljava/lang/Object;)Z" } : Jvm.MethodName)) ∈ lw_all := lw_g (lw_at lw_m4 213 rfl) rfl
theorem q1096 : (Jvm.Cond.instanceMethod ({ cls := "WaterWorks$Order", name := "isLike", desc := "(LWaterWorks$Order;)Z" } : Jvm.MethodName)) ∈ lw_all := lw_g (lw_at lw_m5 68 rfl) rfl
theorem q1097 : (Jvm.Cond.selects "WaterWorks$Order" ({ cls := "WaterWorks$Order", name := "isLike", desc := "(LWaterWorks$Order;)Z" } : Jvm.MethodName) ({ cls := "WaterWorks$Order", name := "isLike", desc := "(LWaterWorks$Order;)Z" } : Jvm.MethodName)) ∈ lw_all := lw_g (lw_at lw_m5 69 rfl) rfl
theorem q1098 : (Jvm.Cond.code ({ cls := "WaterWorks$Order", name := "isLike", desc := "(LWaterWorks$Order;)Z" } : Jvm.MethodName) prog_18_method_2_code (2 : Nat) (Option.some Jvm.ClassFile.FieldType.boolean)) ∈ lw_all := lw_g (lw_at lw_m5 70 rfl) rfl
theorem q1121 : (Jvm.Cond.instanceMethod ({ cls := "WaterWorks$Order", name := "outcome", desc := "()I" } : Jvm.MethodName)) ∈ lw_all := lw_g (lw_at lw_m5 93 rfl) rfl
theorem q1122 : (Jvm.Cond.selects "WaterWorks$Order" ({ cls := "WaterWorks$Order", name := "outcome", desc := "()I" } : Jvm.MethodName) ({ cls := "WaterWorks$Order", name := "outcome", desc := "()I" } : Jvm.MethodName)) ∈ lw_all := lw_g (lw_at lw_m5 94 rfl) rfl
theorem q1123 : (Jvm.Cond.code ({ cls := "WaterWorks$Order", name := "outcome", desc := "()I" } : Jvm.MethodName) prog_18_method_3_code (1 : Nat) (Option.some Jvm.ClassFile.FieldType.int)) ∈ lw_all := lw_g (lw_at lw_m5 95 rfl) rfl
theorem q2150 : (Jvm.Cond.castable "WaterWorks$Order" "java/lang/Object") ∈ lw_tbl := lw_at lw_m9 162 rfl
theorem in_X15 : ∀ w ∈ wsX150, w ∈ lw_all := lw_in wsX150 [688, 690, 692, 694, 696, 698, 700, 702, 704, 706] (by decide +kernel) (by decide +kernel)
/-! WaterWorks$Call -/
def RX16 : String := "WaterWorks$Call"
def TX16 : u_T := fun k => match k with
  | 0 => ("WaterWorks$Call", "number", "I", true)
  | 1 => ("WaterWorks$Call", "depth", "I", true)
  | 2 => ("WaterWorks$Call", "station", "I", true)
  | 3 => ("WaterWorks$Call", "began", "I", true)
  | 4 => ("WaterWorks$Call", "order", "LWaterWorks$Order;", true)
  | 5 => ("WaterWorks$Call", "parent", "LWaterWorks$Call;", true)
  | 6 => ("WaterWorks$Call", "guard", "LWaterWorks$Guard;", true)
  | 7 => ("WaterWorks$Call", "within", "Ljava/util/ArrayList;", true)
  | 8 => ("WaterWorks$Call", "leader", "LWaterWorks$Call;", false)
  | 9 => ("WaterWorks$Call", "by", "Z", false)
  | 10 => ("WaterWorks$Call", "fellBack", "Z", false)
  | 11 => ("WaterWorks$Call", "how", "I", false)
  | 12 => ("WaterWorks$Call", "answer", "I", false)
  | 13 => ("WaterWorks$Call", "ended", "I", false)
  | 14 => ("WaterWorks$Call", "state", "I", false)
  | 15 => ("WaterWorks$Call", "due", "I", false)
  | _ => ("WaterWorks$Call", "failure", "LWaterWorks$Failure;", false)
def tyX16 : Nat → FieldType := fun k => match k with
  | 0 => .int
  | 1 => .int
  | 2 => .int
  | 3 => .int
  | 4 => .object "WaterWorks$Order"
  | 5 => .object "WaterWorks$Call"
  | 6 => .object "WaterWorks$Guard"
  | 7 => .object "java/util/ArrayList"
  | 8 => .object "WaterWorks$Call"
  | 9 => .boolean
  | 10 => .boolean
  | 11 => .int
  | 12 => .int
  | 13 => .int
  | 14 => .int
  | 15 => .int
  | _ => .object "WaterWorks$Failure"
abbrev wsX160 : List Cond := u_ws RX16 TX16 17
theorem nmX16 : ∀ a, a < 17 → ∀ b, b < 17 → a ≠ b → (TX16 a).2.1 ≠ (TX16 b).2.1 := by decide +kernel
theorem tyX16_ok : ∀ k, k < 17 → parseFieldDescriptor (TX16 k).2.2.1 = some (tyX16 k) := by decide +kernel
abbrev cX16_init : ByteArray := prog_5_method_1_code
def yX16_init : MethodName := ⟨RX16, "<init>", "(ILWaterWorks$Order;ILWaterWorks$Call;LWaterWorks$Guard;II)V"⟩
abbrev cX16_other : ByteArray := prog_5_method_4_code
def yX16_other : MethodName := ⟨RX16, "other", "(LWaterWorks$Call;)LWaterWorks$Call;"⟩
abbrev cX16_isUnderWay : ByteArray := prog_5_method_2_code
def yX16_isUnderWay : MethodName := ⟨RX16, "isUnderWay", "()Z"⟩
abbrev cX16_isWithin : ByteArray := prog_5_method_3_code
def yX16_isWithin : MethodName := ⟨RX16, "isWithin", "(LWaterWorks$Call;)Z"⟩
theorem q94 : (Jvm.Cond.initialized "WaterWorks$Call") ∈ lw_all := lw_g (lw_at lw_m1 26 rfl) rfl
theorem q261 : (Jvm.Cond.selects "WaterWorks$Call" ({ cls := "java/lang/Object", name := "getClass", desc := "()Ljava/lang/Class;" } : Jvm.MethodName) ({ cls := "java/lang/Object", name := "getClass", desc := "()Ljava/lang/Class;" } : Jvm.MethodName)) ∈ lw_all := lw_g (lw_at lw_m1 193 rfl) rfl
theorem q722 : (Jvm.Cond.instantiable "WaterWorks$Call" (17 : Nat)) ∈ lw_all := lw_g (lw_at lw_m3 174 rfl) rfl
theorem q724 : (Jvm.Cond.instanceMethod ({ cls := "WaterWorks$Call", name := "<init>", desc := "(ILWaterWorks$Order;ILWaterWorks$Call;LWaterWorks$Guard;II)V" } : Jvm.MethodName)) ∈ lw_all := lw_g (lw_at lw_m3 176 rfl) rfl
theorem q725 : (Jvm.Cond.code ({ cls := "WaterWorks$Call", name := "<init>", desc := "(ILWaterWorks$Order;ILWaterWorks$Call;LWaterWorks$Guard;II)V" } : Jvm.MethodName) prog_5_method_1_code (8 : Nat) (Option.none : Option Jvm.ClassFile.FieldType)) ∈ lw_all := lw_g (lw_at lw_m3 177 rfl) rfl
theorem q726 : (Jvm.Cond.methodLink "WaterWorks$Call" (3 : Nat) ({ cls := "java/lang/Object", name := "<init>", desc := "()V" } : Jvm.MethodName)) ∈ lw_all := lw_g (lw_at lw_m3 178 rfl) rfl
theorem q727 : (Jvm.Cond.classLink "WaterWorks$Call" (9 : Nat) "java/util/ArrayList") ∈ lw_all := lw_g (lw_at lw_m3 179 rfl) rfl
theorem q728 : (Jvm.Cond.methodLink "WaterWorks$Call" (11 : Nat) ({ cls := "java/util/ArrayList", name := "<init>", desc := "()V" } : Jvm.MethodName)) ∈ lw_all := lw_g (lw_at lw_m3 180 rfl) rfl
theorem q729 : (Jvm.Cond.fieldLink "WaterWorks$Call" (28 : Nat) "WaterWorks$Call" "number" "I") ∈ lw_all := lw_g (lw_at lw_m3 181 rfl) rfl
theorem q732 : (Jvm.Cond.fieldLink "WaterWorks$Call" (35 : Nat) "WaterWorks$Call" "depth" "I") ∈ lw_all := lw_g (lw_at lw_m3 184 rfl) rfl
theorem q735 : (Jvm.Cond.fieldLink "WaterWorks$Call" (46 : Nat) "WaterWorks$Call" "station" "I") ∈ lw_all := lw_g (lw_at lw_m3 187 rfl) rfl
theorem q737 : (Jvm.Cond.fieldLink "WaterWorks$Call" (49 : Nat) "WaterWorks$Call" "began" "I") ∈ lw_all := lw_g (lw_at lw_m3 189 rfl) rfl
theorem q739 : (Jvm.Cond.fieldLink "WaterWorks$Call" (31 : Nat) "WaterWorks$Call" "order" "LWaterWorks$Order;") ∈ lw_all := lw_g (lw_at lw_m3 191 rfl) rfl
theorem q744 : (Jvm.Cond.fieldLink "WaterWorks$Call" (38 : Nat) "WaterWorks$Call" "parent" "LWaterWorks$Call;") ∈ lw_all := lw_g (lw_at lw_m3 196 rfl) rfl
theorem q746 : (Jvm.Cond.fieldLink "WaterWorks$Call" (42 : Nat) "WaterWorks$Call" "guard" "LWaterWorks$Guard;") ∈ lw_all := lw_g (lw_at lw_m3 198 rfl) rfl
theorem q749 : (Jvm.Cond.fieldLink "WaterWorks$Call" (12 : Nat) "WaterWorks$Call" "within" "Ljava/util/ArrayList;") ∈ lw_all := lw_g (lw_at lw_m3 201 rfl) rfl
theorem q760 : (Jvm.Cond.fieldLink "WaterWorks$Call" (52 : Nat) "WaterWorks$Call" "how" "I") ∈ lw_all := lw_g (lw_at lw_m3 212 rfl) rfl
theorem q768 : (Jvm.Cond.fieldLink "WaterWorks$Call" (18 : Nat) "WaterWorks$Call" "answer" "I") ∈ lw_all := lw_g (lw_at lw_m3 220 rfl) rfl
theorem q772 : (Jvm.Cond.fieldLink "WaterWorks$Call" (22 : Nat) "WaterWorks$Call" "ended" "I") ∈ lw_all := lw_g (lw_at lw_m3 224 rfl) rfl
theorem q778 : (Jvm.Cond.fieldLink "WaterWorks$Call" (25 : Nat) "WaterWorks$Call" "due" "I") ∈ lw_all := lw_g (lw_at lw_m3 230 rfl) rfl
theorem q789 : (Jvm.Cond.laysFinal "WaterWorks$Call" "WaterWorks$Call" "number" "I") ∈ lw_all := lw_g (lw_at lw_m4 1 rfl) rfl
theorem q790 : (Jvm.Cond.soleField "WaterWorks$Call" "number") ∈ lw_all := lw_g (lw_at lw_m4 2 rfl) rfl
theorem q791 : (Jvm.Cond.laysFinal "WaterWorks$Call" "WaterWorks$Call" "depth" "I") ∈ lw_all := lw_g (lw_at lw_m4 3 rfl) rfl
theorem q792 : (Jvm.Cond.soleField "WaterWorks$Call" "depth") ∈ lw_all := lw_g (lw_at lw_m4 4 rfl) rfl
theorem q793 : (Jvm.Cond.laysFinal "WaterWorks$Call" "WaterWorks$Call" "station" "I") ∈ lw_all := lw_g (lw_at lw_m4 5 rfl) rfl
theorem q794 : (Jvm.Cond.soleField "WaterWorks$Call" "station") ∈ lw_all := lw_g (lw_at lw_m4 6 rfl) rfl
theorem q795 : (Jvm.Cond.laysFinal "WaterWorks$Call" "WaterWorks$Call" "began" "I") ∈ lw_all := lw_g (lw_at lw_m4 7 rfl) rfl
theorem q796 : (Jvm.Cond.soleField "WaterWorks$Call" "began") ∈ lw_all := lw_g (lw_at lw_m4 8 rfl) rfl
theorem q797 : (Jvm.Cond.laysFinal "WaterWorks$Call" "WaterWorks$Call" "order" "LWaterWorks$Order;") ∈ lw_all := lw_g (lw_at lw_m4 9 rfl) rfl
theorem q798 : (Jvm.Cond.soleField "WaterWorks$Call" "order") ∈ lw_all := lw_g (lw_at lw_m4 10 rfl) rfl
theorem q799 : (Jvm.Cond.laysFinal "WaterWorks$Call" "WaterWorks$Call" "parent" "LWaterWorks$Call;") ∈ lw_all := lw_g (lw_at lw_m4 11 rfl) rfl
theorem q800 : (Jvm.Cond.soleField "WaterWorks$Call" "parent") ∈ lw_all := lw_g (lw_at lw_m4 12 rfl) rfl
theorem q801 : (Jvm.Cond.laysFinal "WaterWorks$Call" "WaterWorks$Call" "guard" "LWaterWorks$Guard;") ∈ lw_all := lw_g (lw_at lw_m4 13 rfl) rfl
theorem q802 : (Jvm.Cond.soleField "WaterWorks$Call" "guard") ∈ lw_all := lw_g (lw_at lw_m4 14 rfl) rfl
theorem q803 : (Jvm.Cond.laysFinal "WaterWorks$Call" "WaterWorks$Call" "within" "Ljava/util/ArrayList;") ∈ lw_all := lw_g (lw_at lw_m4 15 rfl) rfl
theorem q804 : (Jvm.Cond.soleField "WaterWorks$Call" "within") ∈ lw_all := lw_g (lw_at lw_m4 16 rfl) rfl
theorem q805 : (Jvm.Cond.lays "WaterWorks$Call" "WaterWorks$Call" "leader" "LWaterWorks$Call;") ∈ lw_all := lw_g (lw_at lw_m4 17 rfl) rfl
theorem q806 : (Jvm.Cond.soleField "WaterWorks$Call" "leader") ∈ lw_all := lw_g (lw_at lw_m4 18 rfl) rfl
theorem q807 : (Jvm.Cond.lays "WaterWorks$Call" "WaterWorks$Call" "by" "Z") ∈ lw_all := lw_g (lw_at lw_m4 19 rfl) rfl
theorem q808 : (Jvm.Cond.soleField "WaterWorks$Call" "by") ∈ lw_all := lw_g (lw_at lw_m4 20 rfl) rfl
theorem q809 : (Jvm.Cond.lays "WaterWorks$Call" "WaterWorks$Call" "fellBack" "Z") ∈ lw_all := lw_g (lw_at lw_m4 21 rfl) rfl
theorem q810 : (Jvm.Cond.soleField "WaterWorks$Call" "fellBack") ∈ lw_all := lw_g (lw_at lw_m4 22 rfl) rfl
theorem q811 : (Jvm.Cond.lays "WaterWorks$Call" "WaterWorks$Call" "how" "I") ∈ lw_all := lw_g (lw_at lw_m4 23 rfl) rfl
theorem q812 : (Jvm.Cond.soleField "WaterWorks$Call" "how") ∈ lw_all := lw_g (lw_at lw_m4 24 rfl) rfl
theorem q813 : (Jvm.Cond.lays "WaterWorks$Call" "WaterWorks$Call" "answer" "I") ∈ lw_all := lw_g (lw_at lw_m4 25 rfl) rfl
theorem q814 : (Jvm.Cond.soleField "WaterWorks$Call" "answer") ∈ lw_all := lw_g (lw_at lw_m4 26 rfl) rfl
theorem q815 : (Jvm.Cond.lays "WaterWorks$Call" "WaterWorks$Call" "ended" "I") ∈ lw_all := lw_g (lw_at lw_m4 27 rfl) rfl
theorem q816 : (Jvm.Cond.soleField "WaterWorks$Call" "ended") ∈ lw_all := lw_g (lw_at lw_m4 28 rfl) rfl
theorem q817 : (Jvm.Cond.lays "WaterWorks$Call" "WaterWorks$Call" "state" "I") ∈ lw_all := lw_g (lw_at lw_m4 29 rfl) rfl
theorem q818 : (Jvm.Cond.soleField "WaterWorks$Call" "state") ∈ lw_all := lw_g (lw_at lw_m4 30 rfl) rfl
theorem q819 : (Jvm.Cond.lays "WaterWorks$Call" "WaterWorks$Call" "due" "I") ∈ lw_all := lw_g (lw_at lw_m4 31 rfl) rfl
theorem q820 : (Jvm.Cond.soleField "WaterWorks$Call" "due") ∈ lw_all := lw_g (lw_at lw_m4 32 rfl) rfl
theorem q821 : (Jvm.Cond.lays "WaterWorks$Call" "WaterWorks$Call" "failure" "LWaterWorks$Failure;") ∈ lw_all := lw_g (lw_at lw_m4 33 rfl) rfl
theorem q822 : (Jvm.Cond.soleField "WaterWorks$Call" "failure") ∈ lw_all := lw_g (lw_at lw_m4 34 rfl) rfl
theorem q823 : (Jvm.Cond.superclass "WaterWorks$Call" "java/lang/Object") ∈ lw_all := lw_g (lw_at lw_m4 35 rfl) rfl
theorem q953 : (Jvm.Cond.instanceMethod ({ cls := "WaterWorks$Call", name := "other", desc := "(LWaterWorks$Call;)LWaterWorks$Call;" } : Jvm.MethodName)) ∈ lw_all := lw_g (lw_at lw_m4 165 rfl) rfl
theorem q954 : (Jvm.Cond.selects "WaterWorks$Call" ({ cls := "WaterWorks$Call", name := "other", desc := "(LWaterWorks$Call;)LWaterWorks$Call;" } : Jvm.MethodName) ({ cls := "WaterWorks$Call", name := "other", desc := "(LWaterWorks$Call;)LWaterWorks$Call;" } : Jvm.MethodName)) ∈ lw_all := lw_g (lw_at lw_m4 166 rfl) rfl
theorem q955 : (Jvm.Cond.code ({ cls := "WaterWorks$Call", name := "other", desc := "(LWaterWorks$Call;)LWaterWorks$Call;" } : Jvm.MethodName) prog_5_method_4_code (3 : Nat) (Option.some (Jvm.ClassFile.FieldType.object "WaterWorks$Call"))) ∈ lw_all := lw_g (lw_at lw_m4 167 rfl) rfl
theorem q956 : (Jvm.Cond.methodLink "WaterWorks$Call" (55 : Nat) ({ cls := "java/util/ArrayList", name := "size", desc := "()I" } : Jvm.MethodName)) ∈ lw_all := lw_g (lw_at lw_m4 168 rfl) rfl
theorem q957 : (Jvm.Cond.methodLink "WaterWorks$Call" (59 : Nat) ({ cls := "java/util/ArrayList", name := "get", desc := "(I)Ljava/lang/Object;" } : Jvm.MethodName)) ∈ lw_all := lw_g (lw_at lw_m4 169 rfl) rfl
theorem q958 : (Jvm.Cond.classLink "WaterWorks$Call" (13 : Nat) "WaterWorks$Call") ∈ lw_all := lw_g (lw_at lw_m4 170 rfl) rfl
theorem q960 : (Jvm.Cond.instanceMethod ({ cls := "WaterWorks$Call", name := "isUnderWay", desc := "()Z" } : Jvm.MethodName)) ∈ lw_all := lw_g (lw_at lw_m4 172 rfl) rfl
theorem q961 : (Jvm.Cond.selects "WaterWorks$Call" ({ cls := "WaterWorks$Call", name := "isUnderWay", desc := "()Z" } : Jvm.MethodName) ({ cls := "WaterWorks$Call", name := "isUnderWay", desc := "()Z" } : Jvm.MethodName)) ∈ lw_all := lw_g (lw_at lw_m4 173 rfl) rfl
theorem q962 : (Jvm.Cond.code ({ cls := "WaterWorks$Call", name := "isUnderWay", desc := "()Z" } : Jvm.MethodName) prog_5_method_2_code (1 : Nat) (Option.some Jvm.ClassFile.FieldType.boolean)) ∈ lw_all := lw_g (lw_at lw_m4 174 rfl) rfl
theorem q969 : (Jvm.Cond.instanceMethod ({ cls := "WaterWorks$Call", name := "isWithin", desc := "(LWaterWorks$Call;)Z" } : Jvm.MethodName)) ∈ lw_all := lw_g (lw_at lw_m4 181 rfl) rfl
theorem q970 : (Jvm.Cond.selects "WaterWorks$Call" ({ cls := "WaterWorks$Call", name := "isWithin", desc := "(LWaterWorks$Call;)Z" } : Jvm.MethodName) ({ cls := "WaterWorks$Call", name := "isWithin", desc := "(LWaterWorks$Call;)Z" } : Jvm.MethodName)) ∈ lw_all := lw_g (lw_at lw_m4 182 rfl) rfl
theorem q971 : (Jvm.Cond.code ({ cls := "WaterWorks$Call", name := "isWithin", desc := "(LWaterWorks$Call;)Z" } : Jvm.MethodName) prog_5_method_3_code (3 : Nat) (Option.some Jvm.ClassFile.FieldType.boolean)) ∈ lw_all := lw_g (lw_at lw_m4 183 rfl) rfl
theorem q989 : (Jvm.Cond.selects "WaterWorks$Call" ({ cls := "java/lang/Object", name := "equals", desc := "(Ljava/lang/Object;)Z" } : Jvm.MethodName) ({ cls := "java/lang/Object", name := "equals", desc := "(Ljava/lang/Object;)Z" } : Jvm.MethodName)) ∈ lw_all := lw_g (lw_at lw_m4 201 rfl) rfl
theorem q2151 : (Jvm.Cond.castable "WaterWorks$Call" "java/lang/Object") ∈ lw_tbl := lw_at lw_m9 163 rfl
theorem in_X16 : ∀ w ∈ wsX160, w ∈ lw_all := lw_in wsX160 [789, 791, 793, 795, 797, 799, 801, 803, 805, 807, 809, 811, 813, 815, 817, 819, 821] (by decide +kernel) (by decide +kernel)
/-! WaterWorks$Failure -/
def RX17 : String := "WaterWorks$Failure"
def TX17 : u_T := fun k => match k with
  | 0 => ("WaterWorks$Failure", "number", "I", true)
  | 1 => ("WaterWorks$Failure", "kind", "I", true)
  | 2 => ("WaterWorks$Failure", "second", "I", true)
  | 3 => ("WaterWorks$Failure", "guard", "I", true)
  | 4 => ("WaterWorks$Failure", "station", "I", true)
  | 5 => ("WaterWorks$Failure", "cause", "LWaterWorks$Failure;", false)
  | _ => ("WaterWorks$Failure", "under", "LWaterWorks$Failure;", false)
def tyX17 : Nat → FieldType := fun k => match k with
  | 0 => .int
  | 1 => .int
  | 2 => .int
  | 3 => .int
  | 4 => .int
  | 5 => .object "WaterWorks$Failure"
  | _ => .object "WaterWorks$Failure"
abbrev wsX170 : List Cond := u_ws RX17 TX17 7
theorem nmX17 : ∀ a, a < 7 → ∀ b, b < 7 → a ≠ b → (TX17 a).2.1 ≠ (TX17 b).2.1 := by decide +kernel
theorem tyX17_ok : ∀ k, k < 7 → parseFieldDescriptor (TX17 k).2.2.1 = some (tyX17 k) := by decide +kernel
abbrev cX17_init : ByteArray := prog_8_method_1_code
def yX17_init : MethodName := ⟨RX17, "<init>", "(IIIII)V"⟩
abbrev cX17_suppressed : ByteArray := prog_8_method_2_code
def yX17_suppressed : MethodName := ⟨RX17, "suppressed", "(LWaterWorks$Failure;)V"⟩
abbrev cX17_numberOf : ByteArray := prog_8_method_3_code
def yX17_numberOf : MethodName := ⟨RX17, "numberOf", "(LWaterWorks$Failure;)I"⟩
theorem q95 : (Jvm.Cond.initialized "WaterWorks$Failure") ∈ lw_all := lw_g (lw_at lw_m1 27 rfl) rfl
theorem q264 : (Jvm.Cond.selects "WaterWorks$Failure" ({ cls := "java/lang/Object", name := "getClass", desc := "()Ljava/lang/Class;" } : Jvm.MethodName) ({ cls := "java/lang/Object", name := "getClass", desc := "()Ljava/lang/Class;" } : Jvm.MethodName)) ∈ lw_all := lw_g (lw_at lw_m1 196 rfl) rfl
theorem q856 : (Jvm.Cond.instantiable "WaterWorks$Failure" (7 : Nat)) ∈ lw_all := lw_g (lw_at lw_m4 68 rfl) rfl
theorem q858 : (Jvm.Cond.instanceMethod ({ cls := "WaterWorks$Failure", name := "<init>", desc := "(IIIII)V" } : Jvm.MethodName)) ∈ lw_all := lw_g (lw_at lw_m4 70 rfl) rfl
theorem q859 : (Jvm.Cond.code ({ cls := "WaterWorks$Failure", name := "<init>", desc := "(IIIII)V" } : Jvm.MethodName) prog_8_method_1_code (6 : Nat) (Option.none : Option Jvm.ClassFile.FieldType)) ∈ lw_all := lw_g (lw_at lw_m4 71 rfl) rfl
theorem q860 : (Jvm.Cond.methodLink "WaterWorks$Failure" (3 : Nat) ({ cls := "java/lang/Object", name := "<init>", desc := "()V" } : Jvm.MethodName)) ∈ lw_all := lw_g (lw_at lw_m4 72 rfl) rfl
theorem q861 : (Jvm.Cond.fieldLink "WaterWorks$Failure" (9 : Nat) "WaterWorks$Failure" "number" "I") ∈ lw_all := lw_g (lw_at lw_m4 73 rfl) rfl
theorem q862 : (Jvm.Cond.fieldLink "WaterWorks$Failure" (15 : Nat) "WaterWorks$Failure" "kind" "I") ∈ lw_all := lw_g (lw_at lw_m4 74 rfl) rfl
theorem q865 : (Jvm.Cond.fieldLink "WaterWorks$Failure" (18 : Nat) "WaterWorks$Failure" "second" "I") ∈ lw_all := lw_g (lw_at lw_m4 77 rfl) rfl
theorem q867 : (Jvm.Cond.fieldLink "WaterWorks$Failure" (21 : Nat) "WaterWorks$Failure" "guard" "I") ∈ lw_all := lw_g (lw_at lw_m4 79 rfl) rfl
theorem q869 : (Jvm.Cond.fieldLink "WaterWorks$Failure" (24 : Nat) "WaterWorks$Failure" "station" "I") ∈ lw_all := lw_g (lw_at lw_m4 81 rfl) rfl
theorem q874 : (Jvm.Cond.fieldLink "WaterWorks$Failure" (27 : Nat) "WaterWorks$Failure" "under" "LWaterWorks$Failure;") ∈ lw_all := lw_g (lw_at lw_m4 86 rfl) rfl
theorem q876 : (Jvm.Cond.laysFinal "WaterWorks$Failure" "WaterWorks$Failure" "number" "I") ∈ lw_all := lw_g (lw_at lw_m4 88 rfl) rfl
theorem q877 : (Jvm.Cond.soleField "WaterWorks$Failure" "number") ∈ lw_all := lw_g (lw_at lw_m4 89 rfl) rfl
theorem q878 : (Jvm.Cond.laysFinal "WaterWorks$Failure" "WaterWorks$Failure" "kind" "I") ∈ lw_all := lw_g (lw_at lw_m4 90 rfl) rfl
theorem q879 : (Jvm.Cond.soleField "WaterWorks$Failure" "kind") ∈ lw_all := lw_g (lw_at lw_m4 91 rfl) rfl
theorem q880 : (Jvm.Cond.laysFinal "WaterWorks$Failure" "WaterWorks$Failure" "second" "I") ∈ lw_all := lw_g (lw_at lw_m4 92 rfl) rfl
theorem q881 : (Jvm.Cond.soleField "WaterWorks$Failure" "second") ∈ lw_all := lw_g (lw_at lw_m4 93 rfl) rfl
theorem q882 : (Jvm.Cond.laysFinal "WaterWorks$Failure" "WaterWorks$Failure" "guard" "I") ∈ lw_all := lw_g (lw_at lw_m4 94 rfl) rfl
theorem q883 : (Jvm.Cond.soleField "WaterWorks$Failure" "guard") ∈ lw_all := lw_g (lw_at lw_m4 95 rfl) rfl
theorem q884 : (Jvm.Cond.laysFinal "WaterWorks$Failure" "WaterWorks$Failure" "station" "I") ∈ lw_all := lw_g (lw_at lw_m4 96 rfl) rfl
theorem q885 : (Jvm.Cond.soleField "WaterWorks$Failure" "station") ∈ lw_all := lw_g (lw_at lw_m4 97 rfl) rfl
theorem q886 : (Jvm.Cond.lays "WaterWorks$Failure" "WaterWorks$Failure" "cause" "LWaterWorks$Failure;") ∈ lw_all := lw_g (lw_at lw_m4 98 rfl) rfl
theorem q887 : (Jvm.Cond.soleField "WaterWorks$Failure" "cause") ∈ lw_all := lw_g (lw_at lw_m4 99 rfl) rfl
theorem q888 : (Jvm.Cond.lays "WaterWorks$Failure" "WaterWorks$Failure" "under" "LWaterWorks$Failure;") ∈ lw_all := lw_g (lw_at lw_m4 100 rfl) rfl
theorem q889 : (Jvm.Cond.soleField "WaterWorks$Failure" "under") ∈ lw_all := lw_g (lw_at lw_m4 101 rfl) rfl
theorem q890 : (Jvm.Cond.superclass "WaterWorks$Failure" "java/lang/Object") ∈ lw_all := lw_g (lw_at lw_m4 102 rfl) rfl
theorem q992 : (Jvm.Cond.selects "WaterWorks$Failure" ({ cls := "java/lang/Object", name := "equals", desc := "(Ljava/lang/Object;)Z" } : Jvm.MethodName) ({ cls := "java/lang/Object", name := "equals", desc := "(Ljava/lang/Object;)Z" } : Jvm.MethodName)) ∈ lw_all := lw_g (lw_at lw_m4 204 rfl) rfl
theorem q1038 : (Jvm.Cond.instanceMethod ({ cls := "WaterWorks$Failure", name := "suppressed", desc := "(LWaterWorks$Failure;)V" } : Jvm.MethodName)) ∈ lw_all := lw_g (lw_at lw_m5 10 rfl) rfl
theorem q1039 : (Jvm.Cond.selects "WaterWorks$Failure" ({ cls := "WaterWorks$Failure", name := "suppressed", desc := "(LWaterWorks$Failure;)V" } : Jvm.MethodName) ({ cls := "WaterWorks$Failure", name := "suppressed", desc := "(LWaterWorks$Failure;)V" } : Jvm.MethodName)) ∈ lw_all := lw_g (lw_at lw_m5 11 rfl) rfl
theorem q1040 : (Jvm.Cond.code ({ cls := "WaterWorks$Failure", name := "suppressed", desc := "(LWaterWorks$Failure;)V" } : Jvm.MethodName) prog_8_method_2_code (2 : Nat) (Option.none : Option Jvm.ClassFile.FieldType)) ∈ lw_all := lw_g (lw_at lw_m5 12 rfl) rfl
theorem q1455 : (Jvm.Cond.static ({ cls := "WaterWorks$Failure", name := "numberOf", desc := "(LWaterWorks$Failure;)I" } : Jvm.MethodName)) ∈ lw_all := lw_g (lw_at lw_m6 187 rfl) rfl
theorem q1456 : (Jvm.Cond.code ({ cls := "WaterWorks$Failure", name := "numberOf", desc := "(LWaterWorks$Failure;)I" } : Jvm.MethodName) prog_8_method_3_code (1 : Nat) (Option.some Jvm.ClassFile.FieldType.int)) ∈ lw_all := lw_g (lw_at lw_m6 188 rfl) rfl
theorem q2152 : (Jvm.Cond.castable "WaterWorks$Failure" "java/lang/Object") ∈ lw_tbl := lw_at lw_m9 164 rfl
theorem in_X17 : ∀ w ∈ wsX170, w ∈ lw_all := lw_in wsX170 [876, 878, 880, 882, 884, 886, 888] (by decide +kernel) (by decide +kernel)
/-! WaterWorks$Effect -/
def RX18 : String := "WaterWorks$Effect"
def TX18 : u_T := fun k => match k with
  | 0 => ("WaterWorks$Effect", "station", "I", true)
  | 1 => ("WaterWorks$Effect", "order", "I", true)
  | 2 => ("WaterWorks$Effect", "key", "I", true)
  | 3 => ("WaterWorks$Effect", "litres", "I", true)
  | _ => ("WaterWorks$Effect", "second", "I", true)
def tyX18 : Nat → FieldType := fun k => match k with
  | 0 => .int
  | 1 => .int
  | 2 => .int
  | 3 => .int
  | _ => .int
abbrev wsX180 : List Cond := u_ws RX18 TX18 5
theorem nmX18 : ∀ a, a < 5 → ∀ b, b < 5 → a ≠ b → (TX18 a).2.1 ≠ (TX18 b).2.1 := by decide +kernel
theorem tyX18_ok : ∀ k, k < 5 → parseFieldDescriptor (TX18 k).2.2.1 = some (tyX18 k) := by decide +kernel
abbrev cX18_init : ByteArray := prog_7_method_1_code
def yX18_init : MethodName := ⟨RX18, "<init>", "(ILWaterWorks$Order;II)V"⟩
theorem q96 : (Jvm.Cond.initialized "WaterWorks$Effect") ∈ lw_all := lw_g (lw_at lw_m1 28 rfl) rfl
theorem q263 : (Jvm.Cond.selects "WaterWorks$Effect" ({ cls := "java/lang/Object", name := "getClass", desc := "()Ljava/lang/Class;" } : Jvm.MethodName) ({ cls := "java/lang/Object", name := "getClass", desc := "()Ljava/lang/Class;" } : Jvm.MethodName)) ∈ lw_all := lw_g (lw_at lw_m1 195 rfl) rfl
theorem q664 : (Jvm.Cond.fieldLinkNest "WaterWorks$Effect" (13 : Nat) "WaterWorks$Order" "number" "I" "WaterWorks") ∈ lw_tbl := lw_at lw_m3 116 rfl
theorem q674 : (Jvm.Cond.fieldLinkNest "WaterWorks$Effect" (21 : Nat) "WaterWorks$Order" "key" "I" "WaterWorks") ∈ lw_tbl := lw_at lw_m3 126 rfl
theorem q991 : (Jvm.Cond.selects "WaterWorks$Effect" ({ cls := "java/lang/Object", name := "equals", desc := "(Ljava/lang/Object;)Z" } : Jvm.MethodName) ({ cls := "java/lang/Object", name := "equals", desc := "(Ljava/lang/Object;)Z" } : Jvm.MethodName)) ∈ lw_all := lw_g (lw_at lw_m4 203 rfl) rfl
theorem q1167 : (Jvm.Cond.instantiable "WaterWorks$Effect" (5 : Nat)) ∈ lw_all := lw_g (lw_at lw_m5 139 rfl) rfl
theorem q1169 : (Jvm.Cond.instanceMethod ({ cls := "WaterWorks$Effect", name := "<init>", desc := "(ILWaterWorks$Order;II)V" } : Jvm.MethodName)) ∈ lw_all := lw_g (lw_at lw_m5 141 rfl) rfl
theorem q1170 : (Jvm.Cond.code ({ cls := "WaterWorks$Effect", name := "<init>", desc := "(ILWaterWorks$Order;II)V" } : Jvm.MethodName) prog_7_method_1_code (5 : Nat) (Option.none : Option Jvm.ClassFile.FieldType)) ∈ lw_all := lw_g (lw_at lw_m5 142 rfl) rfl
theorem q1171 : (Jvm.Cond.methodLink "WaterWorks$Effect" (1 : Nat) ({ cls := "java/lang/Object", name := "<init>", desc := "()V" } : Jvm.MethodName)) ∈ lw_all := lw_g (lw_at lw_m5 143 rfl) rfl
theorem q1172 : (Jvm.Cond.fieldLink "WaterWorks$Effect" (7 : Nat) "WaterWorks$Effect" "station" "I") ∈ lw_all := lw_g (lw_at lw_m5 144 rfl) rfl
theorem q1174 : (Jvm.Cond.fieldLink "WaterWorks$Effect" (18 : Nat) "WaterWorks$Effect" "order" "I") ∈ lw_all := lw_g (lw_at lw_m5 146 rfl) rfl
theorem q1176 : (Jvm.Cond.fieldLink "WaterWorks$Effect" (24 : Nat) "WaterWorks$Effect" "key" "I") ∈ lw_all := lw_g (lw_at lw_m5 148 rfl) rfl
theorem q1178 : (Jvm.Cond.fieldLink "WaterWorks$Effect" (25 : Nat) "WaterWorks$Effect" "litres" "I") ∈ lw_all := lw_g (lw_at lw_m5 150 rfl) rfl
theorem q1180 : (Jvm.Cond.fieldLink "WaterWorks$Effect" (28 : Nat) "WaterWorks$Effect" "second" "I") ∈ lw_all := lw_g (lw_at lw_m5 152 rfl) rfl
theorem q1182 : (Jvm.Cond.laysFinal "WaterWorks$Effect" "WaterWorks$Effect" "station" "I") ∈ lw_all := lw_g (lw_at lw_m5 154 rfl) rfl
theorem q1183 : (Jvm.Cond.soleField "WaterWorks$Effect" "station") ∈ lw_all := lw_g (lw_at lw_m5 155 rfl) rfl
theorem q1184 : (Jvm.Cond.laysFinal "WaterWorks$Effect" "WaterWorks$Effect" "order" "I") ∈ lw_all := lw_g (lw_at lw_m5 156 rfl) rfl
theorem q1185 : (Jvm.Cond.soleField "WaterWorks$Effect" "order") ∈ lw_all := lw_g (lw_at lw_m5 157 rfl) rfl
theorem q1186 : (Jvm.Cond.laysFinal "WaterWorks$Effect" "WaterWorks$Effect" "key" "I") ∈ lw_all := lw_g (lw_at lw_m5 158 rfl) rfl
theorem q1187 : (Jvm.Cond.soleField "WaterWorks$Effect" "key") ∈ lw_all := lw_g (lw_at lw_m5 159 rfl) rfl
theorem q1188 : (Jvm.Cond.laysFinal "WaterWorks$Effect" "WaterWorks$Effect" "litres" "I") ∈ lw_all := lw_g (lw_at lw_m5 160 rfl) rfl
theorem q1189 : (Jvm.Cond.soleField "WaterWorks$Effect" "litres") ∈ lw_all := lw_g (lw_at lw_m5 161 rfl) rfl
theorem q1190 : (Jvm.Cond.laysFinal "WaterWorks$Effect" "WaterWorks$Effect" "second" "I") ∈ lw_all := lw_g (lw_at lw_m5 162 rfl) rfl
theorem q1191 : (Jvm.Cond.soleField "WaterWorks$Effect" "second") ∈ lw_all := lw_g (lw_at lw_m5 163 rfl) rfl
theorem q1192 : (Jvm.Cond.superclass "WaterWorks$Effect" "java/lang/Object") ∈ lw_all := lw_g (lw_at lw_m5 164 rfl) rfl
theorem q2153 : (Jvm.Cond.castable "WaterWorks$Effect" "java/lang/Object") ∈ lw_tbl := lw_at lw_m9 165 rfl
theorem in_X18 : ∀ w ∈ wsX180, w ∈ lw_all := lw_in wsX180 [1182, 1184, 1186, 1188, 1190] (by decide +kernel) (by decide +kernel)
/-! WaterWorks$Work -/
def RX19 : String := "WaterWorks$Work"
def TX19 : u_T := fun k => match k with
  | 0 => ("WaterWorks$Work", "tower", "I", true)
  | 1 => ("WaterWorks$Work", "station", "I", true)
  | 2 => ("WaterWorks$Work", "act", "I", true)
  | 3 => ("WaterWorks$Work", "v", "I", true)
  | 4 => ("WaterWorks$Work", "every", "I", true)
  | 5 => ("WaterWorks$Work", "low", "I", true)
  | 6 => ("WaterWorks$Work", "high", "I", true)
  | 7 => ("WaterWorks$Work", "made", "I", true)
  | 8 => ("WaterWorks$Work", "orders", "I", false)
  | 9 => ("WaterWorks$Work", "latest", "I", false)
  | 10 => ("WaterWorks$Work", "missed", "I", false)
  | 11 => ("WaterWorks$Work", "passed", "I", false)
  | 12 => ("WaterWorks$Work", "stopped", "Z", false)
  | _ => ("WaterWorks$Work", "this$0", "LWaterWorks;", true)
def tyX19 : Nat → FieldType := fun k => match k with
  | 0 => .int
  | 1 => .int
  | 2 => .int
  | 3 => .int
  | 4 => .int
  | 5 => .int
  | 6 => .int
  | 7 => .int
  | 8 => .int
  | 9 => .int
  | 10 => .int
  | 11 => .int
  | 12 => .boolean
  | _ => .object "WaterWorks"
abbrev wsX190 : List Cond := u_ws RX19 TX19 14
theorem nmX19 : ∀ a, a < 14 → ∀ b, b < 14 → a ≠ b → (TX19 a).2.1 ≠ (TX19 b).2.1 := by decide +kernel
theorem tyX19_ok : ∀ k, k < 14 → parseFieldDescriptor (TX19 k).2.2.1 = some (tyX19 k) := by decide +kernel
abbrev cX19_pass : ByteArray := prog_24_method_2_code
def yX19_pass : MethodName := ⟨RX19, "pass", "()V"⟩
abbrev cX19_init : ByteArray := prog_24_method_1_code
def yX19_init : MethodName := ⟨RX19, "<init>", "(LWaterWorks;IIIIIII)V"⟩
theorem q97 : (Jvm.Cond.initialized "WaterWorks$Work") ∈ lw_all := lw_g (lw_at lw_m1 29 rfl) rfl
theorem q137 : (Jvm.Cond.fieldLinkNest "WaterWorks$Work" (15 : Nat) "WaterWorks" "time" "I" "WaterWorks") ∈ lw_tbl := lw_at lw_m1 69 rfl
theorem q147 : (Jvm.Cond.fieldLinkNest "WaterWorks$Work" (50 : Nat) "WaterWorks" "stations" "Ljava/util/ArrayList;" "WaterWorks") ∈ lw_tbl := lw_at lw_m1 79 rfl
theorem q156 : (Jvm.Cond.fieldLinkNest "WaterWorks$Work" (72 : Nat) "WaterWorks" "orders" "Ljava/util/ArrayList;" "WaterWorks") ∈ lw_tbl := lw_at lw_m1 88 rfl
theorem q217 : (Jvm.Cond.fieldLinkNest "WaterWorks$Work" (62 : Nat) "WaterWorks$Station" "level" "I" "WaterWorks") ∈ lw_tbl := lw_at lw_m1 149 rfl
theorem q279 : (Jvm.Cond.selects "WaterWorks$Work" ({ cls := "java/lang/Object", name := "getClass", desc := "()Ljava/lang/Class;" } : Jvm.MethodName) ({ cls := "java/lang/Object", name := "getClass", desc := "()Ljava/lang/Class;" } : Jvm.MethodName)) ∈ lw_all := lw_g (lw_at lw_m1 211 rfl) rfl
theorem q1007 : (Jvm.Cond.selects "WaterWorks$Work" ({ cls := "java/lang/Object", name := "equals", desc := "(Ljava/lang/Object;)Z" } : Jvm.MethodName) ({ cls := "java/lang/Object", name := "equals", desc := "(Ljava/lang/Object;)Z" } : Jvm.MethodName)) ∈ lw_all := lw_g (lw_at lw_m4 219 rfl) rfl
theorem q1236 : (Jvm.Cond.instanceMethod ({ cls := "WaterWorks$Work", name := "pass", desc := "()V" } : Jvm.MethodName)) ∈ lw_all := lw_g (lw_at lw_m5 208 rfl) rfl
theorem q1237 : (Jvm.Cond.selects "WaterWorks$Work" ({ cls := "WaterWorks$Work", name := "pass", desc := "()V" } : Jvm.MethodName) ({ cls := "WaterWorks$Work", name := "pass", desc := "()V" } : Jvm.MethodName)) ∈ lw_all := lw_g (lw_at lw_m5 209 rfl) rfl
theorem q1238 : (Jvm.Cond.code ({ cls := "WaterWorks$Work", name := "pass", desc := "()V" } : Jvm.MethodName) prog_24_method_2_code (1 : Nat) (Option.none : Option Jvm.ClassFile.FieldType)) ∈ lw_all := lw_g (lw_at lw_m5 210 rfl) rfl
theorem q1239 : (Jvm.Cond.methodLink "WaterWorks$Work" (54 : Nat) ({ cls := "java/util/ArrayList", name := "get", desc := "(I)Ljava/lang/Object;" } : Jvm.MethodName)) ∈ lw_all := lw_g (lw_at lw_m5 211 rfl) rfl
theorem q1240 : (Jvm.Cond.classLink "WaterWorks$Work" (60 : Nat) "WaterWorks$Station") ∈ lw_all := lw_g (lw_at lw_m5 212 rfl) rfl
theorem q1241 : (Jvm.Cond.methodLinkNest "WaterWorks$Work" (65 : Nat) ({ cls := "WaterWorks", name := "in", desc := "(III)Z" } : Jvm.MethodName) "WaterWorks") ∈ lw_tbl := lw_at lw_m5 213 rfl
theorem q1242 : (Jvm.Cond.methodLink "WaterWorks$Work" (75 : Nat) ({ cls := "java/util/ArrayList", name := "size", desc := "()I" } : Jvm.MethodName)) ∈ lw_all := lw_g (lw_at lw_m5 214 rfl) rfl
theorem q1243 : (Jvm.Cond.methodLinkNest "WaterWorks$Work" (82 : Nat) ({ cls := "WaterWorks", name := "begins", desc := "(IIIII)I" } : Jvm.MethodName) "WaterWorks") ∈ lw_tbl := lw_at lw_m5 215 rfl
theorem q1277 : (Jvm.Cond.instantiable "WaterWorks$Work" (14 : Nat)) ∈ lw_all := lw_g (lw_at lw_m6 9 rfl) rfl
theorem q1279 : (Jvm.Cond.instanceMethod ({ cls := "WaterWorks$Work", name := "<init>", desc := "(LWaterWorks;IIIIIII)V" } : Jvm.MethodName)) ∈ lw_all := lw_g (lw_at lw_m6 11 rfl) rfl
theorem q1280 : (Jvm.Cond.code ({ cls := "WaterWorks$Work", name := "<init>", desc := "(LWaterWorks;IIIIIII)V" } : Jvm.MethodName) prog_24_method_1_code (9 : Nat) (Option.none : Option Jvm.ClassFile.FieldType)) ∈ lw_all := lw_g (lw_at lw_m6 12 rfl) rfl
theorem q1281 : (Jvm.Cond.methodLink "WaterWorks$Work" (9 : Nat) ({ cls := "java/lang/Object", name := "<init>", desc := "()V" } : Jvm.MethodName)) ∈ lw_all := lw_g (lw_at lw_m6 13 rfl) rfl
theorem q1282 : (Jvm.Cond.fieldLink "WaterWorks$Work" (25 : Nat) "WaterWorks$Work" "tower" "I") ∈ lw_all := lw_g (lw_at lw_m6 14 rfl) rfl
theorem q1283 : (Jvm.Cond.fieldLink "WaterWorks$Work" (28 : Nat) "WaterWorks$Work" "station" "I") ∈ lw_all := lw_g (lw_at lw_m6 15 rfl) rfl
theorem q1284 : (Jvm.Cond.fieldLink "WaterWorks$Work" (31 : Nat) "WaterWorks$Work" "act" "I") ∈ lw_all := lw_g (lw_at lw_m6 16 rfl) rfl
theorem q1285 : (Jvm.Cond.fieldLink "WaterWorks$Work" (34 : Nat) "WaterWorks$Work" "v" "I") ∈ lw_all := lw_g (lw_at lw_m6 17 rfl) rfl
theorem q1286 : (Jvm.Cond.fieldLink "WaterWorks$Work" (37 : Nat) "WaterWorks$Work" "every" "I") ∈ lw_all := lw_g (lw_at lw_m6 18 rfl) rfl
theorem q1287 : (Jvm.Cond.fieldLink "WaterWorks$Work" (40 : Nat) "WaterWorks$Work" "low" "I") ∈ lw_all := lw_g (lw_at lw_m6 19 rfl) rfl
theorem q1288 : (Jvm.Cond.fieldLink "WaterWorks$Work" (43 : Nat) "WaterWorks$Work" "high" "I") ∈ lw_all := lw_g (lw_at lw_m6 20 rfl) rfl
theorem q1289 : (Jvm.Cond.fieldLink "WaterWorks$Work" (19 : Nat) "WaterWorks$Work" "made" "I") ∈ lw_all := lw_g (lw_at lw_m6 21 rfl) rfl
theorem q1290 : (Jvm.Cond.fieldLink "WaterWorks$Work" (86 : Nat) "WaterWorks$Work" "orders" "I") ∈ lw_all := lw_g (lw_at lw_m6 22 rfl) rfl
theorem q1292 : (Jvm.Cond.fieldLink "WaterWorks$Work" (22 : Nat) "WaterWorks$Work" "latest" "I") ∈ lw_all := lw_g (lw_at lw_m6 24 rfl) rfl
theorem q1294 : (Jvm.Cond.fieldLink "WaterWorks$Work" (79 : Nat) "WaterWorks$Work" "missed" "I") ∈ lw_all := lw_g (lw_at lw_m6 26 rfl) rfl
theorem q1296 : (Jvm.Cond.fieldLink "WaterWorks$Work" (69 : Nat) "WaterWorks$Work" "passed" "I") ∈ lw_all := lw_g (lw_at lw_m6 28 rfl) rfl
theorem q1298 : (Jvm.Cond.fieldLink "WaterWorks$Work" (46 : Nat) "WaterWorks$Work" "stopped" "Z") ∈ lw_all := lw_g (lw_at lw_m6 30 rfl) rfl
theorem q1300 : (Jvm.Cond.fieldLink "WaterWorks$Work" (3 : Nat) "WaterWorks$Work" "this$0" "LWaterWorks;") ∈ lw_all := lw_g (lw_at lw_m6 32 rfl) rfl
theorem q1301 : (Jvm.Cond.laysFinal "WaterWorks$Work" "WaterWorks$Work" "tower" "I") ∈ lw_all := lw_g (lw_at lw_m6 33 rfl) rfl
theorem q1302 : (Jvm.Cond.soleField "WaterWorks$Work" "tower") ∈ lw_all := lw_g (lw_at lw_m6 34 rfl) rfl
theorem q1303 : (Jvm.Cond.laysFinal "WaterWorks$Work" "WaterWorks$Work" "station" "I") ∈ lw_all := lw_g (lw_at lw_m6 35 rfl) rfl
theorem q1304 : (Jvm.Cond.soleField "WaterWorks$Work" "station") ∈ lw_all := lw_g (lw_at lw_m6 36 rfl) rfl
theorem q1305 : (Jvm.Cond.laysFinal "WaterWorks$Work" "WaterWorks$Work" "act" "I") ∈ lw_all := lw_g (lw_at lw_m6 37 rfl) rfl
theorem q1306 : (Jvm.Cond.soleField "WaterWorks$Work" "act") ∈ lw_all := lw_g (lw_at lw_m6 38 rfl) rfl
theorem q1307 : (Jvm.Cond.laysFinal "WaterWorks$Work" "WaterWorks$Work" "v" "I") ∈ lw_all := lw_g (lw_at lw_m6 39 rfl) rfl
theorem q1308 : (Jvm.Cond.soleField "WaterWorks$Work" "v") ∈ lw_all := lw_g (lw_at lw_m6 40 rfl) rfl
theorem q1309 : (Jvm.Cond.laysFinal "WaterWorks$Work" "WaterWorks$Work" "every" "I") ∈ lw_all := lw_g (lw_at lw_m6 41 rfl) rfl
theorem q1310 : (Jvm.Cond.soleField "WaterWorks$Work" "every") ∈ lw_all := lw_g (lw_at lw_m6 42 rfl) rfl
theorem q1311 : (Jvm.Cond.laysFinal "WaterWorks$Work" "WaterWorks$Work" "low" "I") ∈ lw_all := lw_g (lw_at lw_m6 43 rfl) rfl
theorem q1312 : (Jvm.Cond.soleField "WaterWorks$Work" "low") ∈ lw_all := lw_g (lw_at lw_m6 44 rfl) rfl
theorem q1313 : (Jvm.Cond.laysFinal "WaterWorks$Work" "WaterWorks$Work" "high" "I") ∈ lw_all := lw_g (lw_at lw_m6 45 rfl) rfl
theorem q1314 : (Jvm.Cond.soleField "WaterWorks$Work" "high") ∈ lw_all := lw_g (lw_at lw_m6 46 rfl) rfl
theorem q1315 : (Jvm.Cond.laysFinal "WaterWorks$Work" "WaterWorks$Work" "made" "I") ∈ lw_all := lw_g (lw_at lw_m6 47 rfl) rfl
theorem q1316 : (Jvm.Cond.soleField "WaterWorks$Work" "made") ∈ lw_all := lw_g (lw_at lw_m6 48 rfl) rfl
theorem q1317 : (Jvm.Cond.lays "WaterWorks$Work" "WaterWorks$Work" "orders" "I") ∈ lw_all := lw_g (lw_at lw_m6 49 rfl) rfl
theorem q1318 : (Jvm.Cond.soleField "WaterWorks$Work" "orders") ∈ lw_all := lw_g (lw_at lw_m6 50 rfl) rfl
theorem q1319 : (Jvm.Cond.lays "WaterWorks$Work" "WaterWorks$Work" "latest" "I") ∈ lw_all := lw_g (lw_at lw_m6 51 rfl) rfl
theorem q1320 : (Jvm.Cond.soleField "WaterWorks$Work" "latest") ∈ lw_all := lw_g (lw_at lw_m6 52 rfl) rfl
theorem q1321 : (Jvm.Cond.lays "WaterWorks$Work" "WaterWorks$Work" "missed" "I") ∈ lw_all := lw_g (lw_at lw_m6 53 rfl) rfl
theorem q1322 : (Jvm.Cond.soleField "WaterWorks$Work" "missed") ∈ lw_all := lw_g (lw_at lw_m6 54 rfl) rfl
theorem q1323 : (Jvm.Cond.lays "WaterWorks$Work" "WaterWorks$Work" "passed" "I") ∈ lw_all := lw_g (lw_at lw_m6 55 rfl) rfl
theorem q1324 : (Jvm.Cond.soleField "WaterWorks$Work" "passed") ∈ lw_all := lw_g (lw_at lw_m6 56 rfl) rfl
theorem q1325 : (Jvm.Cond.lays "WaterWorks$Work" "WaterWorks$Work" "stopped" "Z") ∈ lw_all := lw_g (lw_at lw_m6 57 rfl) rfl
theorem q1326 : (Jvm.Cond.soleField "WaterWorks$Work" "stopped") ∈ lw_all := lw_g (lw_at lw_m6 58 rfl) rfl
theorem q1327 : (Jvm.Cond.laysFinal "WaterWorks$Work" "WaterWorks$Work" "this$0" "LWaterWorks;") ∈ lw_all := lw_g (lw_at lw_m6 59 rfl) rfl
theorem q1328 : (Jvm.Cond.soleField "WaterWorks$Work" "this$0") ∈ lw_all := lw_g (lw_at lw_m6 60 rfl) rfl
theorem q1329 : (Jvm.Cond.superclass "WaterWorks$Work" "java/lang/Object") ∈ lw_all := lw_g (lw_at lw_m6 61 rfl) rfl
theorem q2154 : (Jvm.Cond.castable "WaterWorks$Work" "java/lang/Object") ∈ lw_tbl := lw_at lw_m9 166 rfl
theorem in_X19 : ∀ w ∈ wsX190, w ∈ lw_all := lw_in wsX190 [1301, 1303, 1305, 1307, 1309, 1311, 1313, 1315, 1317, 1319, 1321, 1323, 1325, 1327] (by decide +kernel) (by decide +kernel)
/-! WaterWorks$Alarm -/
def RX20 : String := "WaterWorks$Alarm"
abbrev cX20_look : ByteArray := prog_3_method_3_code
def yX20_look : MethodName := ⟨RX20, "look", "()V"⟩
abbrev cX20_init : ByteArray := prog_3_method_1_code
def yX20_init : MethodName := ⟨RX20, "<init>", "(LWaterWorks;)V"⟩
theorem q98 : (Jvm.Cond.initialized "WaterWorks$Alarm") ∈ lw_all := lw_g (lw_at lw_m1 30 rfl) rfl
theorem q145 : (Jvm.Cond.fieldLinkNest "WaterWorks$Alarm" (30 : Nat) "WaterWorks" "time" "I" "WaterWorks") ∈ lw_tbl := lw_at lw_m1 77 rfl
theorem q1246 : (Jvm.Cond.instanceMethod ({ cls := "WaterWorks$Alarm", name := "look", desc := "()V" } : Jvm.MethodName)) ∈ lw_all := lw_g (lw_at lw_m5 218 rfl) rfl
theorem q1247 : (Jvm.Cond.sameMethod "WaterWorks$Alarm" "WaterWorks$Alarm" "look" "()V") ∈ lw_all := lw_g (lw_at lw_m5 219 rfl) rfl
theorem q1252 : (Jvm.Cond.code ({ cls := "WaterWorks$Alarm", name := "look", desc := "()V" } : Jvm.MethodName) prog_3_method_3_code (1 : Nat) (Option.none : Option Jvm.ClassFile.FieldType)) ∈ lw_all := lw_g (lw_at lw_m5 224 rfl) rfl
theorem q1253 : (Jvm.Cond.methodLink "WaterWorks$Alarm" (19 : Nat) ({ cls := "WaterWorks$Alarm", name := "is", desc := "()Z" } : Jvm.MethodName)) ∈ lw_all := lw_g (lw_at lw_m5 225 rfl) rfl
theorem q1254 : (Jvm.Cond.declares ({ cls := "WaterWorks$Alarm", name := "is", desc := "()Z" } : Jvm.MethodName)) ∈ lw_tbl := lw_at lw_m5 226 rfl
theorem q1255 : (Jvm.Cond.sameMethod "WaterWorks$Alarm" "WaterWorks$Alarm" "is" "()Z") ∈ lw_all := lw_g (lw_at lw_m5 227 rfl) rfl
theorem q1356 : (Jvm.Cond.instanceMethod ({ cls := "WaterWorks$Alarm", name := "<init>", desc := "(LWaterWorks;)V" } : Jvm.MethodName)) ∈ lw_all := lw_g (lw_at lw_m6 88 rfl) rfl
theorem q1357 : (Jvm.Cond.code ({ cls := "WaterWorks$Alarm", name := "<init>", desc := "(LWaterWorks;)V" } : Jvm.MethodName) prog_3_method_1_code (2 : Nat) (Option.none : Option Jvm.ClassFile.FieldType)) ∈ lw_all := lw_g (lw_at lw_m6 89 rfl) rfl
theorem q1358 : (Jvm.Cond.methodLink "WaterWorks$Alarm" (9 : Nat) ({ cls := "java/lang/Object", name := "<init>", desc := "()V" } : Jvm.MethodName)) ∈ lw_all := lw_g (lw_at lw_m6 90 rfl) rfl
theorem q1361 : (Jvm.Cond.fieldLink "WaterWorks$Alarm" (23 : Nat) "WaterWorks$Alarm" "on" "Z") ∈ lw_all := lw_g (lw_at lw_m6 93 rfl) rfl
theorem q1363 : (Jvm.Cond.fieldLink "WaterWorks$Alarm" (27 : Nat) "WaterWorks$Alarm" "rings" "I") ∈ lw_all := lw_g (lw_at lw_m6 95 rfl) rfl
theorem q1365 : (Jvm.Cond.fieldLink "WaterWorks$Alarm" (15 : Nat) "WaterWorks$Alarm" "latest" "I") ∈ lw_all := lw_g (lw_at lw_m6 97 rfl) rfl
theorem q1367 : (Jvm.Cond.fieldLink "WaterWorks$Alarm" (3 : Nat) "WaterWorks$Alarm" "this$0" "LWaterWorks;") ∈ lw_all := lw_g (lw_at lw_m6 99 rfl) rfl
theorem q1373 : (Jvm.Cond.soleField "WaterWorks$Alarm" "on") ∈ lw_all := lw_g (lw_at lw_m6 105 rfl) rfl
theorem q1375 : (Jvm.Cond.soleField "WaterWorks$Alarm" "rings") ∈ lw_all := lw_g (lw_at lw_m6 107 rfl) rfl
theorem q1377 : (Jvm.Cond.soleField "WaterWorks$Alarm" "latest") ∈ lw_all := lw_g (lw_at lw_m6 109 rfl) rfl
theorem q1379 : (Jvm.Cond.soleField "WaterWorks$Alarm" "this$0") ∈ lw_all := lw_g (lw_at lw_m6 111 rfl) rfl
/-! WaterWorks$FuseAlarm -/
def RX21 : String := "WaterWorks$FuseAlarm"
def TX21 : u_T := fun k => match k with
  | 0 => ("WaterWorks$Alarm", "on", "Z", false)
  | 1 => ("WaterWorks$Alarm", "rings", "I", false)
  | 2 => ("WaterWorks$Alarm", "latest", "I", false)
  | 3 => ("WaterWorks$Alarm", "this$0", "LWaterWorks;", true)
  | 4 => ("WaterWorks$FuseAlarm", "of", "LWaterWorks$Fuse;", true)
  | _ => ("WaterWorks$FuseAlarm", "this$0", "LWaterWorks;", true)
def tyX21 : Nat → FieldType := fun k => match k with
  | 0 => .boolean
  | 1 => .int
  | 2 => .int
  | 3 => .object "WaterWorks"
  | 4 => .object "WaterWorks$Fuse"
  | _ => .object "WaterWorks"
abbrev wsX210 : List Cond := u_ws RX21 TX21 6
-- two fields of one name: no nmX21
theorem tyX21_ok : ∀ k, k < 6 → parseFieldDescriptor (TX21 k).2.2.1 = some (tyX21 k) := by decide +kernel
abbrev cX21_is : ByteArray := prog_11_method_2_code
def yX21_is : MethodName := ⟨RX21, "is", "()Z"⟩
abbrev cX21_init : ByteArray := prog_11_method_1_code
def yX21_init : MethodName := ⟨RX21, "<init>", "(LWaterWorks;LWaterWorks$Fuse;)V"⟩
theorem q99 : (Jvm.Cond.initialized "WaterWorks$FuseAlarm") ∈ lw_all := lw_g (lw_at lw_m1 31 rfl) rfl
theorem q267 : (Jvm.Cond.selects "WaterWorks$FuseAlarm" ({ cls := "java/lang/Object", name := "getClass", desc := "()Ljava/lang/Class;" } : Jvm.MethodName) ({ cls := "java/lang/Object", name := "getClass", desc := "()Ljava/lang/Class;" } : Jvm.MethodName)) ∈ lw_all := lw_g (lw_at lw_m1 199 rfl) rfl
theorem q361 : (Jvm.Cond.fieldLinkNest "WaterWorks$FuseAlarm" (17 : Nat) "WaterWorks$Fuse" "state" "I" "WaterWorks") ∈ lw_tbl := lw_at lw_m2 53 rfl
theorem q995 : (Jvm.Cond.selects "WaterWorks$FuseAlarm" ({ cls := "java/lang/Object", name := "equals", desc := "(Ljava/lang/Object;)Z" } : Jvm.MethodName) ({ cls := "java/lang/Object", name := "equals", desc := "(Ljava/lang/Object;)Z" } : Jvm.MethodName)) ∈ lw_all := lw_g (lw_at lw_m4 207 rfl) rfl
theorem q1249 : (Jvm.Cond.selects "WaterWorks$FuseAlarm" ({ cls := "WaterWorks$Alarm", name := "look", desc := "()V" } : Jvm.MethodName) ({ cls := "WaterWorks$Alarm", name := "look", desc := "()V" } : Jvm.MethodName)) ∈ lw_all := lw_g (lw_at lw_m5 221 rfl) rfl
theorem q1263 : (Jvm.Cond.selects "WaterWorks$FuseAlarm" ({ cls := "WaterWorks$Alarm", name := "is", desc := "()Z" } : Jvm.MethodName) ({ cls := "WaterWorks$FuseAlarm", name := "is", desc := "()Z" } : Jvm.MethodName)) ∈ lw_all := lw_g (lw_at lw_m5 235 rfl) rfl
theorem q1264 : (Jvm.Cond.instanceMethod ({ cls := "WaterWorks$FuseAlarm", name := "is", desc := "()Z" } : Jvm.MethodName)) ∈ lw_all := lw_g (lw_at lw_m5 236 rfl) rfl
theorem q1265 : (Jvm.Cond.code ({ cls := "WaterWorks$FuseAlarm", name := "is", desc := "()Z" } : Jvm.MethodName) prog_11_method_2_code (1 : Nat) (Option.some Jvm.ClassFile.FieldType.boolean)) ∈ lw_all := lw_g (lw_at lw_m5 237 rfl) rfl
theorem q1351 : (Jvm.Cond.instantiable "WaterWorks$FuseAlarm" (6 : Nat)) ∈ lw_all := lw_g (lw_at lw_m6 83 rfl) rfl
theorem q1353 : (Jvm.Cond.instanceMethod ({ cls := "WaterWorks$FuseAlarm", name := "<init>", desc := "(LWaterWorks;LWaterWorks$Fuse;)V" } : Jvm.MethodName)) ∈ lw_all := lw_g (lw_at lw_m6 85 rfl) rfl
theorem q1354 : (Jvm.Cond.code ({ cls := "WaterWorks$FuseAlarm", name := "<init>", desc := "(LWaterWorks;LWaterWorks$Fuse;)V" } : Jvm.MethodName) prog_11_method_1_code (3 : Nat) (Option.none : Option Jvm.ClassFile.FieldType)) ∈ lw_all := lw_g (lw_at lw_m6 86 rfl) rfl
theorem q1355 : (Jvm.Cond.methodLinkNest "WaterWorks$FuseAlarm" (7 : Nat) ({ cls := "WaterWorks$Alarm", name := "<init>", desc := "(LWaterWorks;)V" } : Jvm.MethodName) "WaterWorks") ∈ lw_tbl := lw_at lw_m6 87 rfl
theorem q1359 : (Jvm.Cond.fieldLink "WaterWorks$FuseAlarm" (13 : Nat) "WaterWorks$FuseAlarm" "of" "LWaterWorks$Fuse;") ∈ lw_all := lw_g (lw_at lw_m6 91 rfl) rfl
theorem q1360 : (Jvm.Cond.fieldLink "WaterWorks$FuseAlarm" (1 : Nat) "WaterWorks$FuseAlarm" "this$0" "LWaterWorks;") ∈ lw_all := lw_g (lw_at lw_m6 92 rfl) rfl
theorem q1368 : (Jvm.Cond.laysFinal "WaterWorks$FuseAlarm" "WaterWorks$FuseAlarm" "of" "LWaterWorks$Fuse;") ∈ lw_all := lw_g (lw_at lw_m6 100 rfl) rfl
theorem q1369 : (Jvm.Cond.soleField "WaterWorks$FuseAlarm" "of") ∈ lw_all := lw_g (lw_at lw_m6 101 rfl) rfl
theorem q1370 : (Jvm.Cond.laysFinal "WaterWorks$FuseAlarm" "WaterWorks$FuseAlarm" "this$0" "LWaterWorks;") ∈ lw_all := lw_g (lw_at lw_m6 102 rfl) rfl
theorem q1371 : (Jvm.Cond.soleField "WaterWorks$FuseAlarm" "this$0") ∈ lw_all := lw_g (lw_at lw_m6 103 rfl) rfl
theorem q1372 : (Jvm.Cond.lays "WaterWorks$FuseAlarm" "WaterWorks$Alarm" "on" "Z") ∈ lw_all := lw_g (lw_at lw_m6 104 rfl) rfl
theorem q1374 : (Jvm.Cond.lays "WaterWorks$FuseAlarm" "WaterWorks$Alarm" "rings" "I") ∈ lw_all := lw_g (lw_at lw_m6 106 rfl) rfl
theorem q1376 : (Jvm.Cond.lays "WaterWorks$FuseAlarm" "WaterWorks$Alarm" "latest" "I") ∈ lw_all := lw_g (lw_at lw_m6 108 rfl) rfl
theorem q1378 : (Jvm.Cond.laysFinal "WaterWorks$FuseAlarm" "WaterWorks$Alarm" "this$0" "LWaterWorks;") ∈ lw_all := lw_g (lw_at lw_m6 110 rfl) rfl
theorem q1380 : (Jvm.Cond.superclass "WaterWorks$FuseAlarm" "WaterWorks$Alarm") ∈ lw_all := lw_g (lw_at lw_m6 112 rfl) rfl
theorem q2131 : (Jvm.Cond.castable "WaterWorks$FuseAlarm" "WaterWorks$Alarm") ∈ lw_tbl := lw_at lw_m9 143 rfl
theorem q2155 : (Jvm.Cond.castable "WaterWorks$FuseAlarm" "java/lang/Object") ∈ lw_tbl := lw_at lw_m9 167 rfl
theorem in_X21 : ∀ w ∈ wsX210, w ∈ lw_all := lw_in wsX210 [1372, 1374, 1376, 1378, 1368, 1370] (by decide +kernel) (by decide +kernel)
/-! WaterWorks$LevelAlarm -/
def RX22 : String := "WaterWorks$LevelAlarm"
def TX22 : u_T := fun k => match k with
  | 0 => ("WaterWorks$Alarm", "on", "Z", false)
  | 1 => ("WaterWorks$Alarm", "rings", "I", false)
  | 2 => ("WaterWorks$Alarm", "latest", "I", false)
  | 3 => ("WaterWorks$Alarm", "this$0", "LWaterWorks;", true)
  | 4 => ("WaterWorks$LevelAlarm", "of", "LWaterWorks$Station;", true)
  | 5 => ("WaterWorks$LevelAlarm", "mark", "I", true)
  | _ => ("WaterWorks$LevelAlarm", "this$0", "LWaterWorks;", true)
def tyX22 : Nat → FieldType := fun k => match k with
  | 0 => .boolean
  | 1 => .int
  | 2 => .int
  | 3 => .object "WaterWorks"
  | 4 => .object "WaterWorks$Station"
  | 5 => .int
  | _ => .object "WaterWorks"
abbrev wsX220 : List Cond := u_ws RX22 TX22 7
-- two fields of one name: no nmX22
theorem tyX22_ok : ∀ k, k < 7 → parseFieldDescriptor (TX22 k).2.2.1 = some (tyX22 k) := by decide +kernel
abbrev cX22_is : ByteArray := prog_15_method_2_code
def yX22_is : MethodName := ⟨RX22, "is", "()Z"⟩
abbrev cX22_init : ByteArray := prog_15_method_1_code
def yX22_init : MethodName := ⟨RX22, "<init>", "(LWaterWorks;LWaterWorks$Station;I)V"⟩
theorem q100 : (Jvm.Cond.initialized "WaterWorks$LevelAlarm") ∈ lw_all := lw_g (lw_at lw_m1 32 rfl) rfl
theorem q216 : (Jvm.Cond.fieldLinkNest "WaterWorks$LevelAlarm" (21 : Nat) "WaterWorks$Station" "level" "I" "WaterWorks") ∈ lw_tbl := lw_at lw_m1 148 rfl
theorem q270 : (Jvm.Cond.selects "WaterWorks$LevelAlarm" ({ cls := "java/lang/Object", name := "getClass", desc := "()Ljava/lang/Class;" } : Jvm.MethodName) ({ cls := "java/lang/Object", name := "getClass", desc := "()Ljava/lang/Class;" } : Jvm.MethodName)) ∈ lw_all := lw_g (lw_at lw_m1 202 rfl) rfl
theorem q998 : (Jvm.Cond.selects "WaterWorks$LevelAlarm" ({ cls := "java/lang/Object", name := "equals", desc := "(Ljava/lang/Object;)Z" } : Jvm.MethodName) ({ cls := "java/lang/Object", name := "equals", desc := "(Ljava/lang/Object;)Z" } : Jvm.MethodName)) ∈ lw_all := lw_g (lw_at lw_m4 210 rfl) rfl
theorem q1250 : (Jvm.Cond.selects "WaterWorks$LevelAlarm" ({ cls := "WaterWorks$Alarm", name := "look", desc := "()V" } : Jvm.MethodName) ({ cls := "WaterWorks$Alarm", name := "look", desc := "()V" } : Jvm.MethodName)) ∈ lw_all := lw_g (lw_at lw_m5 222 rfl) rfl
theorem q1266 : (Jvm.Cond.selects "WaterWorks$LevelAlarm" ({ cls := "WaterWorks$Alarm", name := "is", desc := "()Z" } : Jvm.MethodName) ({ cls := "WaterWorks$LevelAlarm", name := "is", desc := "()Z" } : Jvm.MethodName)) ∈ lw_all := lw_g (lw_at lw_m5 238 rfl) rfl
theorem q1267 : (Jvm.Cond.instanceMethod ({ cls := "WaterWorks$LevelAlarm", name := "is", desc := "()Z" } : Jvm.MethodName)) ∈ lw_all := lw_g (lw_at lw_m5 239 rfl) rfl
theorem q1268 : (Jvm.Cond.code ({ cls := "WaterWorks$LevelAlarm", name := "is", desc := "()Z" } : Jvm.MethodName) prog_15_method_2_code (1 : Nat) (Option.some Jvm.ClassFile.FieldType.boolean)) ∈ lw_all := lw_g (lw_at lw_m6 0 rfl) rfl
theorem q1382 : (Jvm.Cond.instantiable "WaterWorks$LevelAlarm" (7 : Nat)) ∈ lw_all := lw_g (lw_at lw_m6 114 rfl) rfl
theorem q1384 : (Jvm.Cond.instanceMethod ({ cls := "WaterWorks$LevelAlarm", name := "<init>", desc := "(LWaterWorks;LWaterWorks$Station;I)V" } : Jvm.MethodName)) ∈ lw_all := lw_g (lw_at lw_m6 116 rfl) rfl
theorem q1385 : (Jvm.Cond.code ({ cls := "WaterWorks$LevelAlarm", name := "<init>", desc := "(LWaterWorks;LWaterWorks$Station;I)V" } : Jvm.MethodName) prog_15_method_1_code (4 : Nat) (Option.none : Option Jvm.ClassFile.FieldType)) ∈ lw_all := lw_g (lw_at lw_m6 117 rfl) rfl
theorem q1386 : (Jvm.Cond.methodLinkNest "WaterWorks$LevelAlarm" (7 : Nat) ({ cls := "WaterWorks$Alarm", name := "<init>", desc := "(LWaterWorks;)V" } : Jvm.MethodName) "WaterWorks") ∈ lw_tbl := lw_at lw_m6 118 rfl
theorem q1387 : (Jvm.Cond.fieldLink "WaterWorks$LevelAlarm" (13 : Nat) "WaterWorks$LevelAlarm" "of" "LWaterWorks$Station;") ∈ lw_all := lw_g (lw_at lw_m6 119 rfl) rfl
theorem q1388 : (Jvm.Cond.fieldLink "WaterWorks$LevelAlarm" (17 : Nat) "WaterWorks$LevelAlarm" "mark" "I") ∈ lw_all := lw_g (lw_at lw_m6 120 rfl) rfl
theorem q1389 : (Jvm.Cond.fieldLink "WaterWorks$LevelAlarm" (1 : Nat) "WaterWorks$LevelAlarm" "this$0" "LWaterWorks;") ∈ lw_all := lw_g (lw_at lw_m6 121 rfl) rfl
theorem q1390 : (Jvm.Cond.laysFinal "WaterWorks$LevelAlarm" "WaterWorks$LevelAlarm" "of" "LWaterWorks$Station;") ∈ lw_all := lw_g (lw_at lw_m6 122 rfl) rfl
theorem q1391 : (Jvm.Cond.soleField "WaterWorks$LevelAlarm" "of") ∈ lw_all := lw_g (lw_at lw_m6 123 rfl) rfl
theorem q1392 : (Jvm.Cond.laysFinal "WaterWorks$LevelAlarm" "WaterWorks$LevelAlarm" "mark" "I") ∈ lw_all := lw_g (lw_at lw_m6 124 rfl) rfl
theorem q1393 : (Jvm.Cond.soleField "WaterWorks$LevelAlarm" "mark") ∈ lw_all := lw_g (lw_at lw_m6 125 rfl) rfl
theorem q1394 : (Jvm.Cond.laysFinal "WaterWorks$LevelAlarm" "WaterWorks$LevelAlarm" "this$0" "LWaterWorks;") ∈ lw_all := lw_g (lw_at lw_m6 126 rfl) rfl
theorem q1395 : (Jvm.Cond.soleField "WaterWorks$LevelAlarm" "this$0") ∈ lw_all := lw_g (lw_at lw_m6 127 rfl) rfl
theorem q1396 : (Jvm.Cond.lays "WaterWorks$LevelAlarm" "WaterWorks$Alarm" "on" "Z") ∈ lw_all := lw_g (lw_at lw_m6 128 rfl) rfl
theorem q1397 : (Jvm.Cond.lays "WaterWorks$LevelAlarm" "WaterWorks$Alarm" "rings" "I") ∈ lw_all := lw_g (lw_at lw_m6 129 rfl) rfl
theorem q1398 : (Jvm.Cond.lays "WaterWorks$LevelAlarm" "WaterWorks$Alarm" "latest" "I") ∈ lw_all := lw_g (lw_at lw_m6 130 rfl) rfl
theorem q1399 : (Jvm.Cond.laysFinal "WaterWorks$LevelAlarm" "WaterWorks$Alarm" "this$0" "LWaterWorks;") ∈ lw_all := lw_g (lw_at lw_m6 131 rfl) rfl
theorem q1400 : (Jvm.Cond.superclass "WaterWorks$LevelAlarm" "WaterWorks$Alarm") ∈ lw_all := lw_g (lw_at lw_m6 132 rfl) rfl
theorem q2132 : (Jvm.Cond.castable "WaterWorks$LevelAlarm" "WaterWorks$Alarm") ∈ lw_tbl := lw_at lw_m9 144 rfl
theorem q2156 : (Jvm.Cond.castable "WaterWorks$LevelAlarm" "java/lang/Object") ∈ lw_tbl := lw_at lw_m9 168 rfl
theorem in_X22 : ∀ w ∈ wsX220, w ∈ lw_all := lw_in wsX220 [1396, 1397, 1398, 1399, 1390, 1392, 1394] (by decide +kernel) (by decide +kernel)
/-! WaterWorks$WaitAlarm -/
def RX23 : String := "WaterWorks$WaitAlarm"
def TX23 : u_T := fun k => match k with
  | 0 => ("WaterWorks$Alarm", "on", "Z", false)
  | 1 => ("WaterWorks$Alarm", "rings", "I", false)
  | 2 => ("WaterWorks$Alarm", "latest", "I", false)
  | 3 => ("WaterWorks$Alarm", "this$0", "LWaterWorks;", true)
  | 4 => ("WaterWorks$WaitAlarm", "of", "LWaterWorks$Bulkhead;", true)
  | 5 => ("WaterWorks$WaitAlarm", "many", "I", true)
  | _ => ("WaterWorks$WaitAlarm", "this$0", "LWaterWorks;", true)
def tyX23 : Nat → FieldType := fun k => match k with
  | 0 => .boolean
  | 1 => .int
  | 2 => .int
  | 3 => .object "WaterWorks"
  | 4 => .object "WaterWorks$Bulkhead"
  | 5 => .int
  | _ => .object "WaterWorks"
abbrev wsX230 : List Cond := u_ws RX23 TX23 7
-- two fields of one name: no nmX23
theorem tyX23_ok : ∀ k, k < 7 → parseFieldDescriptor (TX23 k).2.2.1 = some (tyX23 k) := by decide +kernel
abbrev cX23_is : ByteArray := prog_23_method_2_code
def yX23_is : MethodName := ⟨RX23, "is", "()Z"⟩
abbrev cX23_init : ByteArray := prog_23_method_1_code
def yX23_init : MethodName := ⟨RX23, "<init>", "(LWaterWorks;LWaterWorks$Bulkhead;I)V"⟩
theorem q101 : (Jvm.Cond.initialized "WaterWorks$WaitAlarm") ∈ lw_all := lw_g (lw_at lw_m1 33 rfl) rfl
theorem q278 : (Jvm.Cond.selects "WaterWorks$WaitAlarm" ({ cls := "java/lang/Object", name := "getClass", desc := "()Ljava/lang/Class;" } : Jvm.MethodName) ({ cls := "java/lang/Object", name := "getClass", desc := "()Ljava/lang/Class;" } : Jvm.MethodName)) ∈ lw_all := lw_g (lw_at lw_m1 210 rfl) rfl
theorem q445 : (Jvm.Cond.fieldLinkNest "WaterWorks$WaitAlarm" (21 : Nat) "WaterWorks$Bulkhead" "waiting" "Ljava/util/ArrayList;" "WaterWorks") ∈ lw_tbl := lw_at lw_m2 137 rfl
theorem q1006 : (Jvm.Cond.selects "WaterWorks$WaitAlarm" ({ cls := "java/lang/Object", name := "equals", desc := "(Ljava/lang/Object;)Z" } : Jvm.MethodName) ({ cls := "java/lang/Object", name := "equals", desc := "(Ljava/lang/Object;)Z" } : Jvm.MethodName)) ∈ lw_all := lw_g (lw_at lw_m4 218 rfl) rfl
theorem q1251 : (Jvm.Cond.selects "WaterWorks$WaitAlarm" ({ cls := "WaterWorks$Alarm", name := "look", desc := "()V" } : Jvm.MethodName) ({ cls := "WaterWorks$Alarm", name := "look", desc := "()V" } : Jvm.MethodName)) ∈ lw_all := lw_g (lw_at lw_m5 223 rfl) rfl
theorem q1269 : (Jvm.Cond.selects "WaterWorks$WaitAlarm" ({ cls := "WaterWorks$Alarm", name := "is", desc := "()Z" } : Jvm.MethodName) ({ cls := "WaterWorks$WaitAlarm", name := "is", desc := "()Z" } : Jvm.MethodName)) ∈ lw_all := lw_g (lw_at lw_m6 1 rfl) rfl
theorem q1270 : (Jvm.Cond.instanceMethod ({ cls := "WaterWorks$WaitAlarm", name := "is", desc := "()Z" } : Jvm.MethodName)) ∈ lw_all := lw_g (lw_at lw_m6 2 rfl) rfl
theorem q1271 : (Jvm.Cond.code ({ cls := "WaterWorks$WaitAlarm", name := "is", desc := "()Z" } : Jvm.MethodName) prog_23_method_2_code (1 : Nat) (Option.some Jvm.ClassFile.FieldType.boolean)) ∈ lw_all := lw_g (lw_at lw_m6 3 rfl) rfl
theorem q1272 : (Jvm.Cond.methodLink "WaterWorks$WaitAlarm" (27 : Nat) ({ cls := "java/util/ArrayList", name := "size", desc := "()I" } : Jvm.MethodName)) ∈ lw_all := lw_g (lw_at lw_m6 4 rfl) rfl
theorem q1402 : (Jvm.Cond.instantiable "WaterWorks$WaitAlarm" (7 : Nat)) ∈ lw_all := lw_g (lw_at lw_m6 134 rfl) rfl
theorem q1404 : (Jvm.Cond.instanceMethod ({ cls := "WaterWorks$WaitAlarm", name := "<init>", desc := "(LWaterWorks;LWaterWorks$Bulkhead;I)V" } : Jvm.MethodName)) ∈ lw_all := lw_g (lw_at lw_m6 136 rfl) rfl
theorem q1405 : (Jvm.Cond.code ({ cls := "WaterWorks$WaitAlarm", name := "<init>", desc := "(LWaterWorks;LWaterWorks$Bulkhead;I)V" } : Jvm.MethodName) prog_23_method_1_code (4 : Nat) (Option.none : Option Jvm.ClassFile.FieldType)) ∈ lw_all := lw_g (lw_at lw_m6 137 rfl) rfl
theorem q1406 : (Jvm.Cond.methodLinkNest "WaterWorks$WaitAlarm" (7 : Nat) ({ cls := "WaterWorks$Alarm", name := "<init>", desc := "(LWaterWorks;)V" } : Jvm.MethodName) "WaterWorks") ∈ lw_tbl := lw_at lw_m6 138 rfl
theorem q1407 : (Jvm.Cond.fieldLink "WaterWorks$WaitAlarm" (13 : Nat) "WaterWorks$WaitAlarm" "of" "LWaterWorks$Bulkhead;") ∈ lw_all := lw_g (lw_at lw_m6 139 rfl) rfl
theorem q1408 : (Jvm.Cond.fieldLink "WaterWorks$WaitAlarm" (17 : Nat) "WaterWorks$WaitAlarm" "many" "I") ∈ lw_all := lw_g (lw_at lw_m6 140 rfl) rfl
theorem q1409 : (Jvm.Cond.fieldLink "WaterWorks$WaitAlarm" (1 : Nat) "WaterWorks$WaitAlarm" "this$0" "LWaterWorks;") ∈ lw_all := lw_g (lw_at lw_m6 141 rfl) rfl
theorem q1410 : (Jvm.Cond.laysFinal "WaterWorks$WaitAlarm" "WaterWorks$WaitAlarm" "of" "LWaterWorks$Bulkhead;") ∈ lw_all := lw_g (lw_at lw_m6 142 rfl) rfl
theorem q1411 : (Jvm.Cond.soleField "WaterWorks$WaitAlarm" "of") ∈ lw_all := lw_g (lw_at lw_m6 143 rfl) rfl
theorem q1412 : (Jvm.Cond.laysFinal "WaterWorks$WaitAlarm" "WaterWorks$WaitAlarm" "many" "I") ∈ lw_all := lw_g (lw_at lw_m6 144 rfl) rfl
theorem q1413 : (Jvm.Cond.soleField "WaterWorks$WaitAlarm" "many") ∈ lw_all := lw_g (lw_at lw_m6 145 rfl) rfl
theorem q1414 : (Jvm.Cond.laysFinal "WaterWorks$WaitAlarm" "WaterWorks$WaitAlarm" "this$0" "LWaterWorks;") ∈ lw_all := lw_g (lw_at lw_m6 146 rfl) rfl
theorem q1415 : (Jvm.Cond.soleField "WaterWorks$WaitAlarm" "this$0") ∈ lw_all := lw_g (lw_at lw_m6 147 rfl) rfl
theorem q1416 : (Jvm.Cond.lays "WaterWorks$WaitAlarm" "WaterWorks$Alarm" "on" "Z") ∈ lw_all := lw_g (lw_at lw_m6 148 rfl) rfl
theorem q1417 : (Jvm.Cond.lays "WaterWorks$WaitAlarm" "WaterWorks$Alarm" "rings" "I") ∈ lw_all := lw_g (lw_at lw_m6 149 rfl) rfl
theorem q1418 : (Jvm.Cond.lays "WaterWorks$WaitAlarm" "WaterWorks$Alarm" "latest" "I") ∈ lw_all := lw_g (lw_at lw_m6 150 rfl) rfl
theorem q1419 : (Jvm.Cond.laysFinal "WaterWorks$WaitAlarm" "WaterWorks$Alarm" "this$0" "LWaterWorks;") ∈ lw_all := lw_g (lw_at lw_m6 151 rfl) rfl
theorem q1420 : (Jvm.Cond.superclass "WaterWorks$WaitAlarm" "WaterWorks$Alarm") ∈ lw_all := lw_g (lw_at lw_m6 152 rfl) rfl
theorem q2133 : (Jvm.Cond.castable "WaterWorks$WaitAlarm" "WaterWorks$Alarm") ∈ lw_tbl := lw_at lw_m9 145 rfl
theorem q2157 : (Jvm.Cond.castable "WaterWorks$WaitAlarm" "java/lang/Object") ∈ lw_tbl := lw_at lw_m9 169 rfl
theorem in_X23 : ∀ w ∈ wsX230, w ∈ lw_all := lw_in wsX230 [1416, 1417, 1418, 1419, 1410, 1412, 1414] (by decide +kernel) (by decide +kernel)
/-! WaterWorks$AgeAlarm -/
def RX24 : String := "WaterWorks$AgeAlarm"
def TX24 : u_T := fun k => match k with
  | 0 => ("WaterWorks$Alarm", "on", "Z", false)
  | 1 => ("WaterWorks$Alarm", "rings", "I", false)
  | 2 => ("WaterWorks$Alarm", "latest", "I", false)
  | 3 => ("WaterWorks$Alarm", "this$0", "LWaterWorks;", true)
  | 4 => ("WaterWorks$AgeAlarm", "age", "I", true)
  | _ => ("WaterWorks$AgeAlarm", "this$0", "LWaterWorks;", true)
def tyX24 : Nat → FieldType := fun k => match k with
  | 0 => .boolean
  | 1 => .int
  | 2 => .int
  | 3 => .object "WaterWorks"
  | 4 => .int
  | _ => .object "WaterWorks"
abbrev wsX240 : List Cond := u_ws RX24 TX24 6
-- two fields of one name: no nmX24
theorem tyX24_ok : ∀ k, k < 6 → parseFieldDescriptor (TX24 k).2.2.1 = some (tyX24 k) := by decide +kernel
abbrev cX24_is : ByteArray := prog_2_method_2_code
def yX24_is : MethodName := ⟨RX24, "is", "()Z"⟩
abbrev cX24_init : ByteArray := prog_2_method_1_code
def yX24_init : MethodName := ⟨RX24, "<init>", "(LWaterWorks;I)V"⟩
theorem q102 : (Jvm.Cond.initialized "WaterWorks$AgeAlarm") ∈ lw_all := lw_g (lw_at lw_m1 34 rfl) rfl
theorem q143 : (Jvm.Cond.fieldLinkNest "WaterWorks$AgeAlarm" (38 : Nat) "WaterWorks" "time" "I" "WaterWorks") ∈ lw_tbl := lw_at lw_m1 75 rfl
theorem q155 : (Jvm.Cond.fieldLinkNest "WaterWorks$AgeAlarm" (19 : Nat) "WaterWorks" "orders" "Ljava/util/ArrayList;" "WaterWorks") ∈ lw_tbl := lw_at lw_m1 87 rfl
theorem q259 : (Jvm.Cond.selects "WaterWorks$AgeAlarm" ({ cls := "java/lang/Object", name := "getClass", desc := "()Ljava/lang/Class;" } : Jvm.MethodName) ({ cls := "java/lang/Object", name := "getClass", desc := "()Ljava/lang/Class;" } : Jvm.MethodName)) ∈ lw_all := lw_g (lw_at lw_m1 191 rfl) rfl
theorem q678 : (Jvm.Cond.fieldLinkNest "WaterWorks$AgeAlarm" (41 : Nat) "WaterWorks$Order" "began" "I" "WaterWorks") ∈ lw_tbl := lw_at lw_m3 130 rfl
theorem q987 : (Jvm.Cond.selects "WaterWorks$AgeAlarm" ({ cls := "java/lang/Object", name := "equals", desc := "(Ljava/lang/Object;)Z" } : Jvm.MethodName) ({ cls := "java/lang/Object", name := "equals", desc := "(Ljava/lang/Object;)Z" } : Jvm.MethodName)) ∈ lw_all := lw_g (lw_at lw_m4 199 rfl) rfl
theorem q1248 : (Jvm.Cond.selects "WaterWorks$AgeAlarm" ({ cls := "WaterWorks$Alarm", name := "look", desc := "()V" } : Jvm.MethodName) ({ cls := "WaterWorks$Alarm", name := "look", desc := "()V" } : Jvm.MethodName)) ∈ lw_all := lw_g (lw_at lw_m5 220 rfl) rfl
theorem q1256 : (Jvm.Cond.selects "WaterWorks$AgeAlarm" ({ cls := "WaterWorks$Alarm", name := "is", desc := "()Z" } : Jvm.MethodName) ({ cls := "WaterWorks$AgeAlarm", name := "is", desc := "()Z" } : Jvm.MethodName)) ∈ lw_all := lw_g (lw_at lw_m5 228 rfl) rfl
theorem q1257 : (Jvm.Cond.instanceMethod ({ cls := "WaterWorks$AgeAlarm", name := "is", desc := "()Z" } : Jvm.MethodName)) ∈ lw_all := lw_g (lw_at lw_m5 229 rfl) rfl
theorem q1258 : (Jvm.Cond.code ({ cls := "WaterWorks$AgeAlarm", name := "is", desc := "()Z" } : Jvm.MethodName) prog_2_method_2_code (2 : Nat) (Option.some Jvm.ClassFile.FieldType.boolean)) ∈ lw_all := lw_g (lw_at lw_m5 230 rfl) rfl
theorem q1259 : (Jvm.Cond.methodLink "WaterWorks$AgeAlarm" (23 : Nat) ({ cls := "java/util/ArrayList", name := "size", desc := "()I" } : Jvm.MethodName)) ∈ lw_all := lw_g (lw_at lw_m5 231 rfl) rfl
theorem q1260 : (Jvm.Cond.methodLink "WaterWorks$AgeAlarm" (29 : Nat) ({ cls := "java/util/ArrayList", name := "get", desc := "(I)Ljava/lang/Object;" } : Jvm.MethodName)) ∈ lw_all := lw_g (lw_at lw_m5 232 rfl) rfl
theorem q1261 : (Jvm.Cond.classLink "WaterWorks$AgeAlarm" (33 : Nat) "WaterWorks$Order") ∈ lw_all := lw_g (lw_at lw_m5 233 rfl) rfl
theorem q1262 : (Jvm.Cond.methodLink "WaterWorks$AgeAlarm" (35 : Nat) ({ cls := "WaterWorks$Order", name := "outcome", desc := "()I" } : Jvm.MethodName)) ∈ lw_all := lw_g (lw_at lw_m5 234 rfl) rfl
theorem q1422 : (Jvm.Cond.instantiable "WaterWorks$AgeAlarm" (6 : Nat)) ∈ lw_all := lw_g (lw_at lw_m6 154 rfl) rfl
theorem q1424 : (Jvm.Cond.instanceMethod ({ cls := "WaterWorks$AgeAlarm", name := "<init>", desc := "(LWaterWorks;I)V" } : Jvm.MethodName)) ∈ lw_all := lw_g (lw_at lw_m6 156 rfl) rfl
theorem q1425 : (Jvm.Cond.code ({ cls := "WaterWorks$AgeAlarm", name := "<init>", desc := "(LWaterWorks;I)V" } : Jvm.MethodName) prog_2_method_1_code (3 : Nat) (Option.none : Option Jvm.ClassFile.FieldType)) ∈ lw_all := lw_g (lw_at lw_m6 157 rfl) rfl
theorem q1426 : (Jvm.Cond.methodLinkNest "WaterWorks$AgeAlarm" (9 : Nat) ({ cls := "WaterWorks$Alarm", name := "<init>", desc := "(LWaterWorks;)V" } : Jvm.MethodName) "WaterWorks") ∈ lw_tbl := lw_at lw_m6 158 rfl
theorem q1427 : (Jvm.Cond.fieldLink "WaterWorks$AgeAlarm" (15 : Nat) "WaterWorks$AgeAlarm" "age" "I") ∈ lw_all := lw_g (lw_at lw_m6 159 rfl) rfl
theorem q1428 : (Jvm.Cond.fieldLink "WaterWorks$AgeAlarm" (3 : Nat) "WaterWorks$AgeAlarm" "this$0" "LWaterWorks;") ∈ lw_all := lw_g (lw_at lw_m6 160 rfl) rfl
theorem q1429 : (Jvm.Cond.laysFinal "WaterWorks$AgeAlarm" "WaterWorks$AgeAlarm" "age" "I") ∈ lw_all := lw_g (lw_at lw_m6 161 rfl) rfl
theorem q1430 : (Jvm.Cond.soleField "WaterWorks$AgeAlarm" "age") ∈ lw_all := lw_g (lw_at lw_m6 162 rfl) rfl
theorem q1431 : (Jvm.Cond.laysFinal "WaterWorks$AgeAlarm" "WaterWorks$AgeAlarm" "this$0" "LWaterWorks;") ∈ lw_all := lw_g (lw_at lw_m6 163 rfl) rfl
theorem q1432 : (Jvm.Cond.soleField "WaterWorks$AgeAlarm" "this$0") ∈ lw_all := lw_g (lw_at lw_m6 164 rfl) rfl
theorem q1433 : (Jvm.Cond.lays "WaterWorks$AgeAlarm" "WaterWorks$Alarm" "on" "Z") ∈ lw_all := lw_g (lw_at lw_m6 165 rfl) rfl
theorem q1434 : (Jvm.Cond.lays "WaterWorks$AgeAlarm" "WaterWorks$Alarm" "rings" "I") ∈ lw_all := lw_g (lw_at lw_m6 166 rfl) rfl
theorem q1435 : (Jvm.Cond.lays "WaterWorks$AgeAlarm" "WaterWorks$Alarm" "latest" "I") ∈ lw_all := lw_g (lw_at lw_m6 167 rfl) rfl
theorem q1436 : (Jvm.Cond.laysFinal "WaterWorks$AgeAlarm" "WaterWorks$Alarm" "this$0" "LWaterWorks;") ∈ lw_all := lw_g (lw_at lw_m6 168 rfl) rfl
theorem q1437 : (Jvm.Cond.superclass "WaterWorks$AgeAlarm" "WaterWorks$Alarm") ∈ lw_all := lw_g (lw_at lw_m6 169 rfl) rfl
theorem q2130 : (Jvm.Cond.castable "WaterWorks$AgeAlarm" "WaterWorks$Alarm") ∈ lw_tbl := lw_at lw_m9 142 rfl
theorem q2158 : (Jvm.Cond.castable "WaterWorks$AgeAlarm" "java/lang/Object") ∈ lw_tbl := lw_at lw_m9 170 rfl
theorem in_X24 : ∀ w ∈ wsX240, w ∈ lw_all := lw_in wsX240 [1433, 1434, 1435, 1436, 1429, 1431] (by decide +kernel) (by decide +kernel)
/-! the law's own entry -/
abbrev cL_law : ByteArray := code
theorem q68 : (Jvm.Cond.initialized "WaterWorksLaw") ∈ lw_all := lw_g (lw_at lw_m1 0 rfl) rfl
theorem q103 : (Jvm.Cond.classLink "WaterWorksLaw" (7 : Nat) "WaterWorks") ∈ lw_all := lw_g (lw_at lw_m1 35 rfl) rfl
theorem q105 : (Jvm.Cond.methodLink "WaterWorksLaw" (9 : Nat) ({ cls := "WaterWorks", name := "<init>", desc := "()V" } : Jvm.MethodName)) ∈ lw_all := lw_g (lw_at lw_m1 37 rfl) rfl
theorem q193 : (Jvm.Cond.methodLink "WaterWorksLaw" (13 : Nat) ({ cls := "WaterWorks", name := "station", desc := "(III)I" } : Jvm.MethodName)) ∈ lw_all := lw_g (lw_at lw_m1 125 rfl) rfl
theorem q297 : (Jvm.Cond.methodLink "WaterWorksLaw" (18 : Nat) ({ cls := "WaterWorks", name := "fault", desc := "(IIIII)I" } : Jvm.MethodName)) ∈ lw_all := lw_g (lw_at lw_m1 229 rfl) rfl
theorem q335 : (Jvm.Cond.methodLink "WaterWorksLaw" (23 : Nat) ({ cls := "WaterWorks", name := "slow", desc := "(IIIII)I" } : Jvm.MethodName)) ∈ lw_all := lw_g (lw_at lw_m2 27 rfl) rfl
theorem q339 : (Jvm.Cond.methodLink "WaterWorksLaw" (27 : Nat) ({ cls := "WaterWorks", name := "guard", desc := "(IIIII)I" } : Jvm.MethodName)) ∈ lw_all := lw_g (lw_at lw_m2 31 rfl) rfl
theorem q620 : (Jvm.Cond.methodLink "WaterWorksLaw" (31 : Nat) ({ cls := "WaterWorks", name := "on", desc := "(I)I" } : Jvm.MethodName)) ∈ lw_all := lw_g (lw_at lw_m3 72 rfl) rfl
theorem q639 : (Jvm.Cond.methodLink "WaterWorksLaw" (36 : Nat) ({ cls := "WaterWorks", name := "tower", desc := "()I" } : Jvm.MethodName)) ∈ lw_all := lw_g (lw_at lw_m3 91 rfl) rfl
theorem q648 : (Jvm.Cond.methodLink "WaterWorksLaw" (41 : Nat) ({ cls := "WaterWorks", name := "order", desc := "(IIIII)I" } : Jvm.MethodName)) ∈ lw_all := lw_g (lw_at lw_m3 100 rfl) rfl
theorem q1116 : (Jvm.Cond.methodLink "WaterWorksLaw" (45 : Nat) ({ cls := "WaterWorks", name := "cancel", desc := "(I)I" } : Jvm.MethodName)) ∈ lw_all := lw_g (lw_at lw_m5 88 rfl) rfl
theorem q1125 : (Jvm.Cond.methodLink "WaterWorksLaw" (49 : Nat) ({ cls := "WaterWorks", name := "second", desc := "(I)I" } : Jvm.MethodName)) ∈ lw_all := lw_g (lw_at lw_m5 97 rfl) rfl
theorem q1273 : (Jvm.Cond.methodLink "WaterWorksLaw" (53 : Nat) ({ cls := "WaterWorks", name := "plan", desc := "(IIIIIII)I" } : Jvm.MethodName)) ∈ lw_all := lw_g (lw_at lw_m6 5 rfl) rfl
theorem q1330 : (Jvm.Cond.methodLink "WaterWorksLaw" (58 : Nat) ({ cls := "WaterWorks", name := "stop", desc := "(I)I" } : Jvm.MethodName)) ∈ lw_all := lw_g (lw_at lw_m6 62 rfl) rfl
theorem q1334 : (Jvm.Cond.methodLink "WaterWorksLaw" (62 : Nat) ({ cls := "WaterWorks", name := "planned", desc := "(II)I" } : Jvm.MethodName)) ∈ lw_all := lw_g (lw_at lw_m6 66 rfl) rfl
theorem q1338 : (Jvm.Cond.methodLink "WaterWorksLaw" (67 : Nat) ({ cls := "WaterWorks", name := "alarm", desc := "(III)I" } : Jvm.MethodName)) ∈ lw_all := lw_g (lw_at lw_m6 70 rfl) rfl
theorem q1438 : (Jvm.Cond.methodLink "WaterWorksLaw" (71 : Nat) ({ cls := "WaterWorks", name := "alarmed", desc := "(II)I" } : Jvm.MethodName)) ∈ lw_all := lw_g (lw_at lw_m6 170 rfl) rfl
theorem q1442 : (Jvm.Cond.methodLink "WaterWorksLaw" (75 : Nat) ({ cls := "WaterWorks", name := "now", desc := "()I" } : Jvm.MethodName)) ∈ lw_all := lw_g (lw_at lw_m6 174 rfl) rfl
theorem q1446 : (Jvm.Cond.methodLink "WaterWorksLaw" (79 : Nat) ({ cls := "WaterWorks", name := "outcome", desc := "(I)I" } : Jvm.MethodName)) ∈ lw_all := lw_g (lw_at lw_m6 178 rfl) rfl
theorem q1450 : (Jvm.Cond.methodLink "WaterWorksLaw" (83 : Nat) ({ cls := "WaterWorks", name := "of", desc := "(II)I" } : Jvm.MethodName)) ∈ lw_all := lw_g (lw_at lw_m6 182 rfl) rfl
theorem q1457 : (Jvm.Cond.methodLink "WaterWorksLaw" (87 : Nat) ({ cls := "WaterWorks", name := "failure", desc := "(II)I" } : Jvm.MethodName)) ∈ lw_all := lw_g (lw_at lw_m6 189 rfl) rfl
theorem q1461 : (Jvm.Cond.methodLink "WaterWorksLaw" (91 : Nat) ({ cls := "WaterWorks", name := "call", desc := "(II)I" } : Jvm.MethodName)) ∈ lw_all := lw_g (lw_at lw_m6 193 rfl) rfl
theorem q1465 : (Jvm.Cond.methodLink "WaterWorksLaw" (95 : Nat) ({ cls := "WaterWorks", name := "fuse", desc := "(II)I" } : Jvm.MethodName)) ∈ lw_all := lw_g (lw_at lw_m6 197 rfl) rfl
theorem q1469 : (Jvm.Cond.methodLink "WaterWorksLaw" (99 : Nat) ({ cls := "WaterWorks", name := "bulkhead", desc := "(II)I" } : Jvm.MethodName)) ∈ lw_all := lw_g (lw_at lw_m6 201 rfl) rfl
theorem q1473 : (Jvm.Cond.methodLink "WaterWorksLaw" (103 : Nat) ({ cls := "WaterWorks", name := "waiting", desc := "(II)I" } : Jvm.MethodName)) ∈ lw_all := lw_g (lw_at lw_m6 205 rfl) rfl
theorem q1477 : (Jvm.Cond.methodLink "WaterWorksLaw" (107 : Nat) ({ cls := "WaterWorks", name := "tokens", desc := "(I)I" } : Jvm.MethodName)) ∈ lw_all := lw_g (lw_at lw_m6 209 rfl) rfl
theorem q1481 : (Jvm.Cond.methodLink "WaterWorksLaw" (111 : Nat) ({ cls := "WaterWorks", name := "kept", desc := "(III)I" } : Jvm.MethodName)) ∈ lw_all := lw_g (lw_at lw_m6 213 rfl) rfl
theorem q1485 : (Jvm.Cond.methodLink "WaterWorksLaw" (115 : Nat) ({ cls := "WaterWorks", name := "joined", desc := "(II)I" } : Jvm.MethodName)) ∈ lw_all := lw_g (lw_at lw_m6 217 rfl) rfl
theorem q1489 : (Jvm.Cond.methodLink "WaterWorksLaw" (119 : Nat) ({ cls := "WaterWorks", name := "level", desc := "(I)I" } : Jvm.MethodName)) ∈ lw_all := lw_g (lw_at lw_m6 221 rfl) rfl
theorem q1493 : (Jvm.Cond.methodLink "WaterWorksLaw" (123 : Nat) ({ cls := "WaterWorks", name := "effect", desc := "(II)I" } : Jvm.MethodName)) ∈ lw_all := lw_g (lw_at lw_m6 225 rfl) rfl
theorem q1497 : (Jvm.Cond.methodLink "WaterWorksLaw" (127 : Nat) ({ cls := "WaterWorks", name := "isOf", desc := "(II)I" } : Jvm.MethodName)) ∈ lw_all := lw_g (lw_at lw_m6 229 rfl) rfl
theorem q1502 : (Jvm.Cond.methodLink "WaterWorksLaw" (131 : Nat) ({ cls := "WaterWorks", name := "count", desc := "(I)I" } : Jvm.MethodName)) ∈ lw_all := lw_g (lw_at lw_m6 234 rfl) rfl
theorem q1506 : (Jvm.Cond.classLink "WaterWorksLaw" (10 : Nat) "WaterWorksModel") ∈ lw_all := lw_g (lw_at lw_m6 238 rfl) rfl
theorem q1508 : (Jvm.Cond.methodLink "WaterWorksLaw" (12 : Nat) ({ cls := "WaterWorksModel", name := "<init>", desc := "()V" } : Jvm.MethodName)) ∈ lw_all := lw_g (lw_at lw_m7 0 rfl) rfl
theorem q1843 : (Jvm.Cond.methodLink "WaterWorksLaw" (17 : Nat) ({ cls := "WaterWorksModel", name := "station", desc := "(III)I" } : Jvm.MethodName)) ∈ lw_all := lw_g (lw_at lw_m8 95 rfl) rfl
theorem q1848 : (Jvm.Cond.methodLink "WaterWorksLaw" (22 : Nat) ({ cls := "WaterWorksModel", name := "fault", desc := "(IIIII)I" } : Jvm.MethodName)) ∈ lw_all := lw_g (lw_at lw_m8 100 rfl) rfl
theorem q1860 : (Jvm.Cond.methodLink "WaterWorksLaw" (26 : Nat) ({ cls := "WaterWorksModel", name := "slow", desc := "(IIIII)I" } : Jvm.MethodName)) ∈ lw_all := lw_g (lw_at lw_m8 112 rfl) rfl
theorem q1864 : (Jvm.Cond.methodLink "WaterWorksLaw" (130 : Nat) ({ cls := "WaterWorksModel", name := "isOf", desc := "(II)I" } : Jvm.MethodName)) ∈ lw_all := lw_g (lw_at lw_m8 116 rfl) rfl
theorem q1876 : (Jvm.Cond.methodLink "WaterWorksLaw" (90 : Nat) ({ cls := "WaterWorksModel", name := "failure", desc := "(II)I" } : Jvm.MethodName)) ∈ lw_all := lw_g (lw_at lw_m8 128 rfl) rfl
theorem q1880 : (Jvm.Cond.methodLink "WaterWorksLaw" (30 : Nat) ({ cls := "WaterWorksModel", name := "guard", desc := "(IIIII)I" } : Jvm.MethodName)) ∈ lw_all := lw_g (lw_at lw_m8 132 rfl) rfl
theorem q1892 : (Jvm.Cond.methodLink "WaterWorksLaw" (35 : Nat) ({ cls := "WaterWorksModel", name := "on", desc := "(I)I" } : Jvm.MethodName)) ∈ lw_all := lw_g (lw_at lw_m8 144 rfl) rfl
theorem q1896 : (Jvm.Cond.methodLink "WaterWorksLaw" (40 : Nat) ({ cls := "WaterWorksModel", name := "tower", desc := "()I" } : Jvm.MethodName)) ∈ lw_all := lw_g (lw_at lw_m8 148 rfl) rfl
theorem q1900 : (Jvm.Cond.methodLink "WaterWorksLaw" (44 : Nat) ({ cls := "WaterWorksModel", name := "order", desc := "(IIIII)I" } : Jvm.MethodName)) ∈ lw_all := lw_g (lw_at lw_m8 152 rfl) rfl
theorem q2016 : (Jvm.Cond.methodLink "WaterWorksLaw" (48 : Nat) ({ cls := "WaterWorksModel", name := "cancel", desc := "(I)I" } : Jvm.MethodName)) ∈ lw_all := lw_g (lw_at lw_m9 28 rfl) rfl
theorem q2020 : (Jvm.Cond.methodLink "WaterWorksLaw" (57 : Nat) ({ cls := "WaterWorksModel", name := "plan", desc := "(IIIIIII)I" } : Jvm.MethodName)) ∈ lw_all := lw_g (lw_at lw_m9 32 rfl) rfl
theorem q2024 : (Jvm.Cond.methodLink "WaterWorksLaw" (61 : Nat) ({ cls := "WaterWorksModel", name := "stop", desc := "(I)I" } : Jvm.MethodName)) ∈ lw_all := lw_g (lw_at lw_m9 36 rfl) rfl
theorem q2028 : (Jvm.Cond.methodLink "WaterWorksLaw" (66 : Nat) ({ cls := "WaterWorksModel", name := "planned", desc := "(II)I" } : Jvm.MethodName)) ∈ lw_all := lw_g (lw_at lw_m9 40 rfl) rfl
theorem q2032 : (Jvm.Cond.methodLink "WaterWorksLaw" (70 : Nat) ({ cls := "WaterWorksModel", name := "alarm", desc := "(III)I" } : Jvm.MethodName)) ∈ lw_all := lw_g (lw_at lw_m9 44 rfl) rfl
theorem q2040 : (Jvm.Cond.methodLink "WaterWorksLaw" (74 : Nat) ({ cls := "WaterWorksModel", name := "alarmed", desc := "(II)I" } : Jvm.MethodName)) ∈ lw_all := lw_g (lw_at lw_m9 52 rfl) rfl
theorem q2044 : (Jvm.Cond.methodLink "WaterWorksLaw" (52 : Nat) ({ cls := "WaterWorksModel", name := "second", desc := "(I)I" } : Jvm.MethodName)) ∈ lw_all := lw_g (lw_at lw_m9 56 rfl) rfl
theorem q2068 : (Jvm.Cond.methodLink "WaterWorksLaw" (78 : Nat) ({ cls := "WaterWorksModel", name := "now", desc := "()I" } : Jvm.MethodName)) ∈ lw_all := lw_g (lw_at lw_m9 80 rfl) rfl
theorem q2072 : (Jvm.Cond.methodLink "WaterWorksLaw" (82 : Nat) ({ cls := "WaterWorksModel", name := "outcome", desc := "(I)I" } : Jvm.MethodName)) ∈ lw_all := lw_g (lw_at lw_m9 84 rfl) rfl
theorem q2076 : (Jvm.Cond.methodLink "WaterWorksLaw" (86 : Nat) ({ cls := "WaterWorksModel", name := "of", desc := "(II)I" } : Jvm.MethodName)) ∈ lw_all := lw_g (lw_at lw_m9 88 rfl) rfl
theorem q2080 : (Jvm.Cond.methodLink "WaterWorksLaw" (94 : Nat) ({ cls := "WaterWorksModel", name := "call", desc := "(II)I" } : Jvm.MethodName)) ∈ lw_all := lw_g (lw_at lw_m9 92 rfl) rfl
theorem q2084 : (Jvm.Cond.methodLink "WaterWorksLaw" (98 : Nat) ({ cls := "WaterWorksModel", name := "fuse", desc := "(II)I" } : Jvm.MethodName)) ∈ lw_all := lw_g (lw_at lw_m9 96 rfl) rfl
theorem q2088 : (Jvm.Cond.methodLink "WaterWorksLaw" (102 : Nat) ({ cls := "WaterWorksModel", name := "bulkhead", desc := "(II)I" } : Jvm.MethodName)) ∈ lw_all := lw_g (lw_at lw_m9 100 rfl) rfl
theorem q2092 : (Jvm.Cond.methodLink "WaterWorksLaw" (106 : Nat) ({ cls := "WaterWorksModel", name := "waiting", desc := "(II)I" } : Jvm.MethodName)) ∈ lw_all := lw_g (lw_at lw_m9 104 rfl) rfl
theorem q2096 : (Jvm.Cond.methodLink "WaterWorksLaw" (110 : Nat) ({ cls := "WaterWorksModel", name := "tokens", desc := "(I)I" } : Jvm.MethodName)) ∈ lw_all := lw_g (lw_at lw_m9 108 rfl) rfl
theorem q2100 : (Jvm.Cond.methodLink "WaterWorksLaw" (114 : Nat) ({ cls := "WaterWorksModel", name := "kept", desc := "(III)I" } : Jvm.MethodName)) ∈ lw_all := lw_g (lw_at lw_m9 112 rfl) rfl
theorem q2104 : (Jvm.Cond.methodLink "WaterWorksLaw" (118 : Nat) ({ cls := "WaterWorksModel", name := "joined", desc := "(II)I" } : Jvm.MethodName)) ∈ lw_all := lw_g (lw_at lw_m9 116 rfl) rfl
theorem q2108 : (Jvm.Cond.methodLink "WaterWorksLaw" (122 : Nat) ({ cls := "WaterWorksModel", name := "level", desc := "(I)I" } : Jvm.MethodName)) ∈ lw_all := lw_g (lw_at lw_m9 120 rfl) rfl
theorem q2112 : (Jvm.Cond.methodLink "WaterWorksLaw" (126 : Nat) ({ cls := "WaterWorksModel", name := "effect", desc := "(II)I" } : Jvm.MethodName)) ∈ lw_all := lw_g (lw_at lw_m9 124 rfl) rfl
theorem q2116 : (Jvm.Cond.methodLink "WaterWorksLaw" (134 : Nat) ({ cls := "WaterWorksModel", name := "count", desc := "(I)I" } : Jvm.MethodName)) ∈ lw_all := lw_g (lw_at lw_m9 128 rfl) rfl
theorem q2163 : (Jvm.Cond.castable "[I" "java/lang/Object") ∈ lw_tbl := lw_at lw_m9 175 rfl
theorem q2165 : (Jvm.Cond.castable "[LWaterWorks$Guard;" "java/lang/Object") ∈ lw_tbl := lw_at lw_m9 177 rfl
theorem q2159 : (Jvm.Cond.sameMethod "[Ljava/lang/Object;" "java/lang/Object" "getClass" "()Ljava/lang/Class;") ∈ lw_all := lw_g (lw_at lw_m9 171 rfl) rfl
theorem q2160 : (Jvm.Cond.selects "[Ljava/lang/Object;" ({ cls := "java/lang/Object", name := "getClass", desc := "()Ljava/lang/Class;" } : Jvm.MethodName) ({ cls := "java/lang/Object", name := "getClass", desc := "()Ljava/lang/Class;" } : Jvm.MethodName)) ∈ lw_all := lw_g (lw_at lw_m9 172 rfl) rfl
theorem q2162 : (Jvm.Cond.castable "[Ljava/lang/Object;" "java/lang/Object") ∈ lw_tbl := lw_at lw_m9 174 rfl
theorem q2164 : (Jvm.Cond.castable "[Z" "java/lang/Object") ∈ lw_tbl := lw_at lw_m9 176 rfl
theorem q78 : (Jvm.Cond.initialized "java/lang/System") ∈ lw_all := lw_g (lw_at lw_m1 10 rfl) rfl
theorem q293 : (Jvm.Cond.static ({ cls := "java/lang/System", name := "arraycopy", desc := "(Ljava/lang/Object;ILjava/lang/Object;II)V" } : Jvm.MethodName)) ∈ lw_all := lw_g (lw_at lw_m1 225 rfl) rfl
theorem q294 : (Jvm.Cond.native ({ cls := "java/lang/System", name := "arraycopy", desc := "(Ljava/lang/Object;ILjava/lang/Object;II)V" } : Jvm.MethodName)) ∈ lw_all := lw_g (lw_at lw_m1 226 rfl) rfl
theorem q287 : (Jvm.Cond.arrayOver (Jvm.ClassFile.FieldType.object "java/lang/Object")) ∈ lw_tbl := lw_at lw_m1 219 rfl
theorem q435 : (Jvm.Cond.arrayClass Jvm.ClassFile.FieldType.int) ∈ lw_all := lw_g (lw_at lw_m2 127 rfl) rfl
theorem q585 : (Jvm.Cond.arrayClass Jvm.ClassFile.FieldType.boolean) ∈ lw_all := lw_g (lw_at lw_m3 37 rfl) rfl
theorem q643 : (Jvm.Cond.arrayOver (Jvm.ClassFile.FieldType.object "WaterWorks$Guard")) ∈ lw_tbl := lw_at lw_m3 95 rfl
