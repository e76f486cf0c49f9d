section
/-! HeirHunters$Line -/
set_option maxRecDepth 100000
def RX2 : String := "HeirHunters$Line"
def TX2 : u_T := fun k => match k with
  | 0 => ("HeirHunters$Line", "parent", "I", true)
  | 1 => ("HeirHunters$Line", "child", "I", true)
  | 2 => ("HeirHunters$Line", "isStruck", "Z", false)
  | _ => ("HeirHunters$Line", "this$0", "LHeirHunters;", true)
def tyX2 : Nat → FieldType := fun k => match k with
  | 0 => .int
  | 1 => .int
  | 2 => .boolean
  | _ => .object "HeirHunters"
abbrev wsX20 : List Cond := u_ws RX2 TX2 4
theorem nmX2 : ∀ a, a < 4 → ∀ b, b < 4 → a ≠ b → (TX2 a).2.1 ≠ (TX2 b).2.1 := by decide +kernel
theorem tyX2_ok : ∀ k, k < 4 → parseFieldDescriptor (TX2 k).2.2.1 = some (tyX2 k) := by decide +kernel
abbrev cX2_init : ByteArray := prog_5_method_1_code
def yX2_init : MethodName := ⟨RX2, "<init>", "(LHeirHunters;II)V"⟩
def dkwX2_init_0 : List UInt8 := [42, 43, 181, 0, 3, 42, 183, 0, 9, 42, 28, 181, 0, 15, 42, 29, 181, 0, 19, 177]
abbrev dktX2_init_0 : List UInt8 := dkwX2_init_0 ++ []
theorem dksX2_init_0 : cX2_init.data.toList.drop 0 = dktX2_init_0 := by decide +kernel
theorem dX2_init_0 : decode cX2_init 0 = .ok (.aload_n 0, 1) := dk_42 (dk_at dksX2_init_0 0 rfl rfl)
theorem dX2_init_1 : decode cX2_init 1 = .ok (.aload_n 1, 1) := dk_43 (dk_at dksX2_init_0 1 rfl rfl)
theorem dX2_init_2 : decode cX2_init 2 = .ok (.putfield 3, 3) := dk_181 0 3 (dk_at dksX2_init_0 2 rfl rfl)
theorem dX2_init_5 : decode cX2_init 5 = .ok (.aload_n 0, 1) := dk_42 (dk_at dksX2_init_0 5 rfl rfl)
theorem dX2_init_6 : decode cX2_init 6 = .ok (.invokespecial 9, 3) := dk_183 0 9 (dk_at dksX2_init_0 6 rfl rfl)
theorem dX2_init_9 : decode cX2_init 9 = .ok (.aload_n 0, 1) := dk_42 (dk_at dksX2_init_0 9 rfl rfl)
theorem dX2_init_10 : decode cX2_init 10 = .ok (.iload_n 2, 1) := dk_28 (dk_at dksX2_init_0 10 rfl rfl)
theorem dX2_init_11 : decode cX2_init 11 = .ok (.putfield 15, 3) := dk_181 0 15 (dk_at dksX2_init_0 11 rfl rfl)
theorem dX2_init_14 : decode cX2_init 14 = .ok (.aload_n 0, 1) := dk_42 (dk_at dksX2_init_0 14 rfl rfl)
theorem dX2_init_15 : decode cX2_init 15 = .ok (.iload_n 3, 1) := dk_29 (dk_at dksX2_init_0 15 rfl rfl)
theorem dX2_init_16 : decode cX2_init 16 = .ok (.putfield 19, 3) := dk_181 0 19 (dk_at dksX2_init_0 16 rfl rfl)
theorem dX2_init_19 : decode cX2_init 19 = .ok (.return_, 1) := dk_177 (dk_at dksX2_init_0 19 rfl rfl)
abbrev cX2_kind : ByteArray := prog_5_method_2_code
def yX2_kind : MethodName := ⟨RX2, "kind", "()I"⟩
theorem dX2_kind_0 : decode cX2_kind 0 = .ok (.iconst 0, 1) := by decide +kernel
theorem dX2_kind_1 : decode cX2_kind 1 = .ok (.ireturn, 1) := by decide +kernel
abbrev cX2_isOpen : ByteArray := prog_5_method_3_code
def yX2_isOpen : MethodName := ⟨RX2, "isOpen", "()Z"⟩
theorem dX2_isOpen_0 : decode cX2_isOpen 0 = .ok (.iconst 0, 1) := by decide +kernel
theorem dX2_isOpen_1 : decode cX2_isOpen 1 = .ok (.ireturn, 1) := by decide +kernel
abbrev cX2_mark : ByteArray := prog_5_method_4_code
def yX2_mark : MethodName := ⟨RX2, "mark", "()I"⟩
theorem dX2_mark_0 : decode cX2_mark 0 = .ok (.bipush (-9), 2) := by decide +kernel
theorem dX2_mark_2 : decode cX2_mark 2 = .ok (.ireturn, 1) := by decide +kernel
theorem q72 : (Jvm.Cond.initialized "HeirHunters$Line") ∈ lw_all := lw_g (lw_at lw_m1 3 rfl) rfl
theorem q271 : (Jvm.Cond.instantiable "HeirHunters$Line" (4 : Nat)) ∈ lw_all := lw_g (lw_at lw_m1 202 rfl) rfl
theorem q273 : (Jvm.Cond.instanceMethod ({ cls := "HeirHunters$Line", name := "<init>", desc := "(LHeirHunters;II)V" } : Jvm.MethodName)) ∈ lw_all := lw_g (lw_at lw_m1 204 rfl) rfl
theorem q274 : (Jvm.Cond.code ({ cls := "HeirHunters$Line", name := "<init>", desc := "(LHeirHunters;II)V" } : Jvm.MethodName) prog_5_method_1_code (4 : Nat) (Option.none : Option Jvm.ClassFile.FieldType)) ∈ lw_all := lw_g (lw_at lw_m1 205 rfl) rfl
theorem q275 : (Jvm.Cond.methodLink "HeirHunters$Line" (9 : Nat) ({ cls := "java/lang/Object", name := "<init>", desc := "()V" } : Jvm.MethodName)) ∈ lw_all := lw_g (lw_at lw_m1 206 rfl) rfl
theorem q278 : (Jvm.Cond.fieldLink "HeirHunters$Line" (15 : Nat) "HeirHunters$Line" "parent" "I") ∈ lw_all := lw_g (lw_at lw_m1 209 rfl) rfl
theorem q282 : (Jvm.Cond.fieldLink "HeirHunters$Line" (19 : Nat) "HeirHunters$Line" "child" "I") ∈ lw_all := lw_g (lw_at lw_m1 213 rfl) rfl
theorem q287 : (Jvm.Cond.fieldLink "HeirHunters$Line" (3 : Nat) "HeirHunters$Line" "this$0" "LHeirHunters;") ∈ lw_all := lw_g (lw_at lw_m1 218 rfl) rfl
theorem q288 : (Jvm.Cond.laysFinal "HeirHunters$Line" "HeirHunters$Line" "parent" "I") ∈ lw_all := lw_g (lw_at lw_m1 219 rfl) rfl
theorem q289 : (Jvm.Cond.soleField "HeirHunters$Line" "parent") ∈ lw_all := lw_g (lw_at lw_m1 220 rfl) rfl
theorem q290 : (Jvm.Cond.laysFinal "HeirHunters$Line" "HeirHunters$Line" "child" "I") ∈ lw_all := lw_g (lw_at lw_m1 221 rfl) rfl
theorem q291 : (Jvm.Cond.soleField "HeirHunters$Line" "child") ∈ lw_all := lw_g (lw_at lw_m1 222 rfl) rfl
theorem q292 : (Jvm.Cond.lays "HeirHunters$Line" "HeirHunters$Line" "isStruck" "Z") ∈ lw_all := lw_g (lw_at lw_m1 223 rfl) rfl
theorem q293 : (Jvm.Cond.soleField "HeirHunters$Line" "isStruck") ∈ lw_all := lw_g (lw_at lw_m1 224 rfl) rfl
theorem q294 : (Jvm.Cond.laysFinal "HeirHunters$Line" "HeirHunters$Line" "this$0" "LHeirHunters;") ∈ lw_all := lw_g (lw_at lw_m1 225 rfl) rfl
theorem q295 : (Jvm.Cond.soleField "HeirHunters$Line" "this$0") ∈ lw_all := lw_g (lw_at lw_m1 226 rfl) rfl
theorem q296 : (Jvm.Cond.superclass "HeirHunters$Line" "java/lang/Object") ∈ lw_all := lw_g (lw_at lw_m1 227 rfl) rfl
theorem q345 : (Jvm.Cond.instanceMethod ({ cls := "HeirHunters$Line", name := "kind", desc := "()I" } : Jvm.MethodName)) ∈ lw_all := lw_g (lw_at lw_m2 36 rfl) rfl
theorem q346 : (Jvm.Cond.selects "HeirHunters$Line" ({ cls := "HeirHunters$Line", name := "kind", desc := "()I" } : Jvm.MethodName) ({ cls := "HeirHunters$Line", name := "kind", desc := "()I" } : Jvm.MethodName)) ∈ lw_all := lw_g (lw_at lw_m2 37 rfl) rfl
theorem q347 : (Jvm.Cond.sameMethod "HeirHunters$Line" "HeirHunters$Line" "kind" "()I") ∈ lw_all := lw_g (lw_at lw_m2 38 rfl) rfl
theorem q360 : (Jvm.Cond.code ({ cls := "HeirHunters$Line", name := "kind", desc := "()I" } : Jvm.MethodName) prog_5_method_2_code (1 : Nat) (Option.some Jvm.ClassFile.FieldType.int)) ∈ lw_all := lw_g (lw_at lw_m2 51 rfl) rfl
theorem q555 : (Jvm.Cond.castable "HeirHunters$Line" "HeirHunters$Counts") ∈ lw_tbl := lw_at lw_m3 6 rfl
theorem q556 : (Jvm.Cond.unhidden "HeirHunters$Line" "counts" "(ZI)Z") ∈ lw_tbl := lw_at lw_m3 7 rfl
theorem q641 : (Jvm.Cond.instanceMethod ({ cls := "HeirHunters$Line", name := "isOpen", desc := "()Z" } : Jvm.MethodName)) ∈ lw_all := lw_g (lw_at lw_m3 92 rfl) rfl
theorem q642 : (Jvm.Cond.selects "HeirHunters$Line" ({ cls := "HeirHunters$Line", name := "isOpen", desc := "()Z" } : Jvm.MethodName) ({ cls := "HeirHunters$Line", name := "isOpen", desc := "()Z" } : Jvm.MethodName)) ∈ lw_all := lw_g (lw_at lw_m3 93 rfl) rfl
theorem q643 : (Jvm.Cond.sameMethod "HeirHunters$Line" "HeirHunters$Line" "isOpen" "()Z") ∈ lw_all := lw_g (lw_at lw_m3 94 rfl) rfl
theorem q651 : (Jvm.Cond.code ({ cls := "HeirHunters$Line", name := "isOpen", desc := "()Z" } : Jvm.MethodName) prog_5_method_3_code (1 : Nat) (Option.some Jvm.ClassFile.FieldType.boolean)) ∈ lw_all := lw_g (lw_at lw_m3 102 rfl) rfl
theorem q691 : (Jvm.Cond.instanceMethod ({ cls := "HeirHunters$Line", name := "mark", desc := "()I" } : Jvm.MethodName)) ∈ lw_all := lw_g (lw_at lw_m3 142 rfl) rfl
theorem q692 : (Jvm.Cond.selects "HeirHunters$Line" ({ cls := "HeirHunters$Line", name := "mark", desc := "()I" } : Jvm.MethodName) ({ cls := "HeirHunters$Line", name := "mark", desc := "()I" } : Jvm.MethodName)) ∈ lw_all := lw_g (lw_at lw_m3 143 rfl) rfl
theorem q693 : (Jvm.Cond.sameMethod "HeirHunters$Line" "HeirHunters$Line" "mark" "()I") ∈ lw_all := lw_g (lw_at lw_m3 144 rfl) rfl
theorem q697 : (Jvm.Cond.code ({ cls := "HeirHunters$Line", name := "mark", desc := "()I" } : Jvm.MethodName) prog_5_method_4_code (1 : Nat) (Option.some Jvm.ClassFile.FieldType.int)) ∈ lw_all := lw_g (lw_at lw_m3 148 rfl) rfl
theorem in_X2 : ∀ w ∈ wsX20, w ∈ lw_all := lw_in wsX20 [288, 290, 292, 294] (by decide +kernel) (by decide +kernel)
/-! HeirHunters$Claimed -/
set_option maxRecDepth 100000
def RX3 : String := "HeirHunters$Claimed"
def TX3 : u_T := fun k => match k with
  | 0 => ("HeirHunters$Line", "parent", "I", true)
  | 1 => ("HeirHunters$Line", "child", "I", true)
  | 2 => ("HeirHunters$Line", "isStruck", "Z", false)
  | 3 => ("HeirHunters$Line", "this$0", "LHeirHunters;", true)
  | 4 => ("HeirHunters$Claimed", "cost", "I", true)
  | _ => ("HeirHunters$Claimed", "this$0", "LHeirHunters;", true)
def tyX3 : Nat → FieldType := fun k => match k with
  | 0 => .int
  | 1 => .int
  | 2 => .boolean
  | 3 => .object "HeirHunters"
  | 4 => .int
  | _ => .object "HeirHunters"
abbrev wsX30 : List Cond := u_ws RX3 TX3 6
-- two fields of one name: no nmX3
theorem tyX3_ok : ∀ k, k < 6 → parseFieldDescriptor (TX3 k).2.2.1 = some (tyX3 k) := by decide +kernel
abbrev cX3_init : ByteArray := prog_3_method_1_code
def yX3_init : MethodName := ⟨RX3, "<init>", "(LHeirHunters;III)V"⟩
def dkwX3_init_0 : List UInt8 := [42, 43, 181, 0, 1, 42, 43, 28, 29, 183, 0, 7, 42, 21, 4, 181, 0, 13, 177]
abbrev dktX3_init_0 : List UInt8 := dkwX3_init_0 ++ []
theorem dksX3_init_0 : cX3_init.data.toList.drop 0 = dktX3_init_0 := by decide +kernel
theorem dX3_init_0 : decode cX3_init 0 = .ok (.aload_n 0, 1) := dk_42 (dk_at dksX3_init_0 0 rfl rfl)
theorem dX3_init_1 : decode cX3_init 1 = .ok (.aload_n 1, 1) := dk_43 (dk_at dksX3_init_0 1 rfl rfl)
theorem dX3_init_2 : decode cX3_init 2 = .ok (.putfield 1, 3) := dk_181 0 1 (dk_at dksX3_init_0 2 rfl rfl)
theorem dX3_init_5 : decode cX3_init 5 = .ok (.aload_n 0, 1) := dk_42 (dk_at dksX3_init_0 5 rfl rfl)
theorem dX3_init_6 : decode cX3_init 6 = .ok (.aload_n 1, 1) := dk_43 (dk_at dksX3_init_0 6 rfl rfl)
theorem dX3_init_7 : decode cX3_init 7 = .ok (.iload_n 2, 1) := dk_28 (dk_at dksX3_init_0 7 rfl rfl)
theorem dX3_init_8 : decode cX3_init 8 = .ok (.iload_n 3, 1) := dk_29 (dk_at dksX3_init_0 8 rfl rfl)
theorem dX3_init_9 : decode cX3_init 9 = .ok (.invokespecial 7, 3) := dk_183 0 7 (dk_at dksX3_init_0 9 rfl rfl)
theorem dX3_init_12 : decode cX3_init 12 = .ok (.aload_n 0, 1) := dk_42 (dk_at dksX3_init_0 12 rfl rfl)
theorem dX3_init_13 : decode cX3_init 13 = .ok (.iload 4, 2) := dk_21 4 (dk_at dksX3_init_0 13 rfl rfl)
theorem dX3_init_15 : decode cX3_init 15 = .ok (.putfield 13, 3) := dk_181 0 13 (dk_at dksX3_init_0 15 rfl rfl)
theorem dX3_init_18 : decode cX3_init 18 = .ok (.return_, 1) := dk_177 (dk_at dksX3_init_0 18 rfl rfl)
abbrev cX3_kind : ByteArray := prog_3_method_2_code
def yX3_kind : MethodName := ⟨RX3, "kind", "()I"⟩
def dkwX3_kind_0 : List UInt8 := [42, 183, 0, 17, 4, 96, 172]
abbrev dktX3_kind_0 : List UInt8 := dkwX3_kind_0 ++ []
theorem dksX3_kind_0 : cX3_kind.data.toList.drop 0 = dktX3_kind_0 := by decide +kernel
theorem dX3_kind_0 : decode cX3_kind 0 = .ok (.aload_n 0, 1) := dk_42 (dk_at dksX3_kind_0 0 rfl rfl)
theorem dX3_kind_1 : decode cX3_kind 1 = .ok (.invokespecial 17, 3) := dk_183 0 17 (dk_at dksX3_kind_0 1 rfl rfl)
theorem dX3_kind_4 : decode cX3_kind 4 = .ok (.iconst 1, 1) := dk_4 (dk_at dksX3_kind_0 4 rfl rfl)
theorem dX3_kind_5 : decode cX3_kind 5 = .ok (.iadd, 1) := dk_96 (dk_at dksX3_kind_0 5 rfl rfl)
theorem dX3_kind_6 : decode cX3_kind 6 = .ok (.ireturn, 1) := dk_172 (dk_at dksX3_kind_0 6 rfl rfl)
abbrev cX3_mark : ByteArray := prog_3_method_4_code
def yX3_mark : MethodName := ⟨RX3, "mark", "()I"⟩
theorem dX3_mark_0 : decode cX3_mark 0 = .ok (.aload_n 0, 1) := by decide +kernel
theorem dX3_mark_1 : decode cX3_mark 1 = .ok (.getfield 13, 3) := by decide +kernel
theorem dX3_mark_4 : decode cX3_mark 4 = .ok (.ireturn, 1) := by decide +kernel
abbrev cX3_isOpen : ByteArray := prog_3_method_3_code
def yX3_isOpen : MethodName := ⟨RX3, "isOpen", "()Z"⟩
def dkwX3_isOpen_0 : List UInt8 := [42, 180, 0, 21, 154, 0, 7, 4, 167, 0, 4, 3, 172]
abbrev dktX3_isOpen_0 : List UInt8 := dkwX3_isOpen_0 ++ []
theorem dksX3_isOpen_0 : cX3_isOpen.data.toList.drop 0 = dktX3_isOpen_0 := by decide +kernel
theorem dX3_isOpen_0 : decode cX3_isOpen 0 = .ok (.aload_n 0, 1) := dk_42 (dk_at dksX3_isOpen_0 0 rfl rfl)
theorem dX3_isOpen_1 : decode cX3_isOpen 1 = .ok (.getfield 21, 3) := dk_180 0 21 (dk_at dksX3_isOpen_0 1 rfl rfl)
theorem dX3_isOpen_4 : decode cX3_isOpen 4 = .ok (.ifCond .ne 7, 3) := dk_154 0 7 (dk_at dksX3_isOpen_0 4 rfl rfl)
theorem dX3_isOpen_7 : decode cX3_isOpen 7 = .ok (.iconst 1, 1) := dk_4 (dk_at dksX3_isOpen_0 7 rfl rfl)
theorem dX3_isOpen_8 : decode cX3_isOpen 8 = .ok (.goto 4, 3) := dk_167 0 4 (dk_at dksX3_isOpen_0 8 rfl rfl)
theorem dX3_isOpen_11 : decode cX3_isOpen 11 = .ok (.iconst 0, 1) := dk_3 (dk_at dksX3_isOpen_0 11 rfl rfl)
theorem dX3_isOpen_12 : decode cX3_isOpen 12 = .ok (.ireturn, 1) := dk_172 (dk_at dksX3_isOpen_0 12 rfl rfl)
theorem q73 : (Jvm.Cond.initialized "HeirHunters$Claimed") ∈ lw_all := lw_g (lw_at lw_m1 4 rfl) rfl
theorem q277 : (Jvm.Cond.sameField "HeirHunters$Claimed" "HeirHunters$Line" "parent" "I") ∈ lw_all := lw_g (lw_at lw_m1 208 rfl) rfl
theorem q281 : (Jvm.Cond.sameField "HeirHunters$Claimed" "HeirHunters$Line" "child" "I") ∈ lw_all := lw_g (lw_at lw_m1 212 rfl) rfl
theorem q284 : (Jvm.Cond.fieldLink "HeirHunters$Claimed" (21 : Nat) "HeirHunters$Claimed" "isStruck" "Z") ∈ lw_all := lw_g (lw_at lw_m1 215 rfl) rfl
theorem q285 : (Jvm.Cond.sameField "HeirHunters$Claimed" "HeirHunters$Line" "isStruck" "Z") ∈ lw_all := lw_g (lw_at lw_m1 216 rfl) rfl
theorem q298 : (Jvm.Cond.instantiable "HeirHunters$Claimed" (6 : Nat)) ∈ lw_all := lw_g (lw_at lw_m1 229 rfl) rfl
theorem q300 : (Jvm.Cond.instanceMethod ({ cls := "HeirHunters$Claimed", name := "<init>", desc := "(LHeirHunters;III)V" } : Jvm.MethodName)) ∈ lw_all := lw_g (lw_at lw_m1 231 rfl) rfl
theorem q301 : (Jvm.Cond.code ({ cls := "HeirHunters$Claimed", name := "<init>", desc := "(LHeirHunters;III)V" } : Jvm.MethodName) prog_3_method_1_code (5 : Nat) (Option.none : Option Jvm.ClassFile.FieldType)) ∈ lw_all := lw_g (lw_at lw_m1 232 rfl) rfl
theorem q302 : (Jvm.Cond.methodLink "HeirHunters$Claimed" (7 : Nat) ({ cls := "HeirHunters$Line", name := "<init>", desc := "(LHeirHunters;II)V" } : Jvm.MethodName)) ∈ lw_all := lw_g (lw_at lw_m1 233 rfl) rfl
theorem q303 : (Jvm.Cond.fieldLink "HeirHunters$Claimed" (13 : Nat) "HeirHunters$Claimed" "cost" "I") ∈ lw_all := lw_g (lw_at lw_m1 234 rfl) rfl
theorem q305 : (Jvm.Cond.fieldLink "HeirHunters$Claimed" (1 : Nat) "HeirHunters$Claimed" "this$0" "LHeirHunters;") ∈ lw_all := lw_g (lw_at lw_m1 236 rfl) rfl
theorem q306 : (Jvm.Cond.laysFinal "HeirHunters$Claimed" "HeirHunters$Claimed" "cost" "I") ∈ lw_all := lw_g (lw_at lw_m1 237 rfl) rfl
theorem q307 : (Jvm.Cond.soleField "HeirHunters$Claimed" "cost") ∈ lw_all := lw_g (lw_at lw_m1 238 rfl) rfl
theorem q308 : (Jvm.Cond.laysFinal "HeirHunters$Claimed" "HeirHunters$Claimed" "this$0" "LHeirHunters;") ∈ lw_all := lw_g (lw_at lw_m1 239 rfl) rfl
theorem q309 : (Jvm.Cond.soleField "HeirHunters$Claimed" "this$0") ∈ lw_all := lw_g (lw_at lw_m2 0 rfl) rfl
theorem q310 : (Jvm.Cond.laysFinal "HeirHunters$Claimed" "HeirHunters$Line" "parent" "I") ∈ lw_all := lw_g (lw_at lw_m2 1 rfl) rfl
theorem q311 : (Jvm.Cond.laysFinal "HeirHunters$Claimed" "HeirHunters$Line" "child" "I") ∈ lw_all := lw_g (lw_at lw_m2 2 rfl) rfl
theorem q312 : (Jvm.Cond.lays "HeirHunters$Claimed" "HeirHunters$Line" "isStruck" "Z") ∈ lw_all := lw_g (lw_at lw_m2 3 rfl) rfl
theorem q313 : (Jvm.Cond.laysFinal "HeirHunters$Claimed" "HeirHunters$Line" "this$0" "LHeirHunters;") ∈ lw_all := lw_g (lw_at lw_m2 4 rfl) rfl
theorem q314 : (Jvm.Cond.superclass "HeirHunters$Claimed" "HeirHunters$Line") ∈ lw_all := lw_g (lw_at lw_m2 5 rfl) rfl
theorem q351 : (Jvm.Cond.selects "HeirHunters$Claimed" ({ cls := "HeirHunters$Line", name := "kind", desc := "()I" } : Jvm.MethodName) ({ cls := "HeirHunters$Claimed", name := "kind", desc := "()I" } : Jvm.MethodName)) ∈ lw_all := lw_g (lw_at lw_m2 42 rfl) rfl
theorem q352 : (Jvm.Cond.instanceMethod ({ cls := "HeirHunters$Claimed", name := "kind", desc := "()I" } : Jvm.MethodName)) ∈ lw_all := lw_g (lw_at lw_m2 43 rfl) rfl
theorem q353 : (Jvm.Cond.code ({ cls := "HeirHunters$Claimed", name := "kind", desc := "()I" } : Jvm.MethodName) prog_3_method_2_code (1 : Nat) (Option.some Jvm.ClassFile.FieldType.int)) ∈ lw_all := lw_g (lw_at lw_m2 44 rfl) rfl
theorem q354 : (Jvm.Cond.methodLink "HeirHunters$Claimed" (17 : Nat) ({ cls := "HeirHunters$Line", name := "kind", desc := "()I" } : Jvm.MethodName)) ∈ lw_all := lw_g (lw_at lw_m2 45 rfl) rfl
theorem q457 : (Jvm.Cond.instanceMethod ({ cls := "HeirHunters$Claimed", name := "mark", desc := "()I" } : Jvm.MethodName)) ∈ lw_all := lw_g (lw_at lw_m2 148 rfl) rfl
theorem q458 : (Jvm.Cond.code ({ cls := "HeirHunters$Claimed", name := "mark", desc := "()I" } : Jvm.MethodName) prog_3_method_4_code (1 : Nat) (Option.some Jvm.ClassFile.FieldType.int)) ∈ lw_all := lw_g (lw_at lw_m2 149 rfl) rfl
theorem q550 : (Jvm.Cond.castable "HeirHunters$Claimed" "HeirHunters$Counts") ∈ lw_tbl := lw_at lw_m3 1 rfl
theorem q551 : (Jvm.Cond.unhidden "HeirHunters$Claimed" "counts" "(ZI)Z") ∈ lw_tbl := lw_at lw_m3 2 rfl
theorem q645 : (Jvm.Cond.selects "HeirHunters$Claimed" ({ cls := "HeirHunters$Line", name := "isOpen", desc := "()Z" } : Jvm.MethodName) ({ cls := "HeirHunters$Claimed", name := "isOpen", desc := "()Z" } : Jvm.MethodName)) ∈ lw_all := lw_g (lw_at lw_m3 96 rfl) rfl
theorem q646 : (Jvm.Cond.instanceMethod ({ cls := "HeirHunters$Claimed", name := "isOpen", desc := "()Z" } : Jvm.MethodName)) ∈ lw_all := lw_g (lw_at lw_m3 97 rfl) rfl
theorem q647 : (Jvm.Cond.code ({ cls := "HeirHunters$Claimed", name := "isOpen", desc := "()Z" } : Jvm.MethodName) prog_3_method_3_code (1 : Nat) (Option.some Jvm.ClassFile.FieldType.boolean)) ∈ lw_all := lw_g (lw_at lw_m3 98 rfl) rfl
theorem q695 : (Jvm.Cond.selects "HeirHunters$Claimed" ({ cls := "HeirHunters$Line", name := "mark", desc := "()I" } : Jvm.MethodName) ({ cls := "HeirHunters$Claimed", name := "mark", desc := "()I" } : Jvm.MethodName)) ∈ lw_all := lw_g (lw_at lw_m3 146 rfl) rfl
theorem q1322 : (Jvm.Cond.sameMethod "HeirHunters$Claimed" "HeirHunters$Claimed" "kind" "()I") ∈ lw_all := lw_g (lw_at lw_m6 53 rfl) rfl
theorem q1324 : (Jvm.Cond.sameMethod "HeirHunters$Claimed" "HeirHunters$Claimed" "mark" "()I") ∈ lw_all := lw_g (lw_at lw_m6 55 rfl) rfl
theorem q1325 : (Jvm.Cond.selects "HeirHunters$Claimed" ({ cls := "HeirHunters$Claimed", name := "mark", desc := "()I" } : Jvm.MethodName) ({ cls := "HeirHunters$Claimed", name := "mark", desc := "()I" } : Jvm.MethodName)) ∈ lw_all := lw_g (lw_at lw_m6 56 rfl) rfl
theorem q1330 : (Jvm.Cond.castable "HeirHunters$Claimed" "HeirHunters$Line") ∈ lw_tbl := lw_at lw_m6 61 rfl
theorem in_X3 : ∀ w ∈ wsX30, w ∈ lw_all := lw_in wsX30 [310, 311, 312, 313, 306, 308] (by decide +kernel) (by decide +kernel)
/-! HeirHunters$Adopted -/
set_option maxRecDepth 100000
def RX4 : String := "HeirHunters$Adopted"
def TX4 : u_T := fun k => match k with
  | 0 => ("HeirHunters$Line", "parent", "I", true)
  | 1 => ("HeirHunters$Line", "child", "I", true)
  | 2 => ("HeirHunters$Line", "isStruck", "Z", false)
  | 3 => ("HeirHunters$Line", "this$0", "LHeirHunters;", true)
  | 4 => ("HeirHunters$Adopted", "act", "I", true)
  | _ => ("HeirHunters$Adopted", "this$0", "LHeirHunters;", true)
def tyX4 : Nat → FieldType := fun k => match k with
  | 0 => .int
  | 1 => .int
  | 2 => .boolean
  | 3 => .object "HeirHunters"
  | 4 => .int
  | _ => .object "HeirHunters"
abbrev wsX40 : List Cond := u_ws RX4 TX4 6
-- two fields of one name: no nmX4
theorem tyX4_ok : ∀ k, k < 6 → parseFieldDescriptor (TX4 k).2.2.1 = some (tyX4 k) := by decide +kernel
abbrev cX4_init : ByteArray := prog_2_method_1_code
def yX4_init : MethodName := ⟨RX4, "<init>", "(LHeirHunters;III)V"⟩
def dkwX4_init_0 : List UInt8 := [42, 43, 181, 0, 1, 42, 43, 28, 29, 183, 0, 7, 42, 21, 4, 181, 0, 13, 177]
abbrev dktX4_init_0 : List UInt8 := dkwX4_init_0 ++ []
theorem dksX4_init_0 : cX4_init.data.toList.drop 0 = dktX4_init_0 := by decide +kernel
theorem dX4_init_0 : decode cX4_init 0 = .ok (.aload_n 0, 1) := dk_42 (dk_at dksX4_init_0 0 rfl rfl)
theorem dX4_init_1 : decode cX4_init 1 = .ok (.aload_n 1, 1) := dk_43 (dk_at dksX4_init_0 1 rfl rfl)
theorem dX4_init_2 : decode cX4_init 2 = .ok (.putfield 1, 3) := dk_181 0 1 (dk_at dksX4_init_0 2 rfl rfl)
theorem dX4_init_5 : decode cX4_init 5 = .ok (.aload_n 0, 1) := dk_42 (dk_at dksX4_init_0 5 rfl rfl)
theorem dX4_init_6 : decode cX4_init 6 = .ok (.aload_n 1, 1) := dk_43 (dk_at dksX4_init_0 6 rfl rfl)
theorem dX4_init_7 : decode cX4_init 7 = .ok (.iload_n 2, 1) := dk_28 (dk_at dksX4_init_0 7 rfl rfl)
theorem dX4_init_8 : decode cX4_init 8 = .ok (.iload_n 3, 1) := dk_29 (dk_at dksX4_init_0 8 rfl rfl)
theorem dX4_init_9 : decode cX4_init 9 = .ok (.invokespecial 7, 3) := dk_183 0 7 (dk_at dksX4_init_0 9 rfl rfl)
theorem dX4_init_12 : decode cX4_init 12 = .ok (.aload_n 0, 1) := dk_42 (dk_at dksX4_init_0 12 rfl rfl)
theorem dX4_init_13 : decode cX4_init 13 = .ok (.iload 4, 2) := dk_21 4 (dk_at dksX4_init_0 13 rfl rfl)
theorem dX4_init_15 : decode cX4_init 15 = .ok (.putfield 13, 3) := dk_181 0 13 (dk_at dksX4_init_0 15 rfl rfl)
theorem dX4_init_18 : decode cX4_init 18 = .ok (.return_, 1) := dk_177 (dk_at dksX4_init_0 18 rfl rfl)
abbrev cX4_kind : ByteArray := prog_2_method_2_code
def yX4_kind : MethodName := ⟨RX4, "kind", "()I"⟩
theorem dX4_kind_0 : decode cX4_kind 0 = .ok (.iconst 3, 1) := by decide +kernel
theorem dX4_kind_1 : decode cX4_kind 1 = .ok (.ireturn, 1) := by decide +kernel
abbrev cX4_mark : ByteArray := prog_2_method_4_code
def yX4_mark : MethodName := ⟨RX4, "mark", "()I"⟩
theorem dX4_mark_0 : decode cX4_mark 0 = .ok (.aload_n 0, 1) := by decide +kernel
theorem dX4_mark_1 : decode cX4_mark 1 = .ok (.getfield 13, 3) := by decide +kernel
theorem dX4_mark_4 : decode cX4_mark 4 = .ok (.ireturn, 1) := by decide +kernel
abbrev cX4_counts : ByteArray := prog_2_method_3_code
def yX4_counts : MethodName := ⟨RX4, "counts", "(ZI)Z"⟩
def dkwX4_counts_0 : List UInt8 := [27, 153, 0, 15, 42, 180, 0, 13, 28, 163, 0, 7, 4, 167, 0, 4, 3, 172]
abbrev dktX4_counts_0 : List UInt8 := dkwX4_counts_0 ++ []
theorem dksX4_counts_0 : cX4_counts.data.toList.drop 0 = dktX4_counts_0 := by decide +kernel
theorem dX4_counts_0 : decode cX4_counts 0 = .ok (.iload_n 1, 1) := dk_27 (dk_at dksX4_counts_0 0 rfl rfl)
theorem dX4_counts_1 : decode cX4_counts 1 = .ok (.ifCond .eq 15, 3) := dk_153 0 15 (dk_at dksX4_counts_0 1 rfl rfl)
theorem dX4_counts_4 : decode cX4_counts 4 = .ok (.aload_n 0, 1) := dk_42 (dk_at dksX4_counts_0 4 rfl rfl)
theorem dX4_counts_5 : decode cX4_counts 5 = .ok (.getfield 13, 3) := dk_180 0 13 (dk_at dksX4_counts_0 5 rfl rfl)
theorem dX4_counts_8 : decode cX4_counts 8 = .ok (.iload_n 2, 1) := dk_28 (dk_at dksX4_counts_0 8 rfl rfl)
theorem dX4_counts_9 : decode cX4_counts 9 = .ok (.if_icmp .gt 7, 3) := dk_163 0 7 (dk_at dksX4_counts_0 9 rfl rfl)
theorem dX4_counts_12 : decode cX4_counts 12 = .ok (.iconst 1, 1) := dk_4 (dk_at dksX4_counts_0 12 rfl rfl)
theorem dX4_counts_13 : decode cX4_counts 13 = .ok (.goto 4, 3) := dk_167 0 4 (dk_at dksX4_counts_0 13 rfl rfl)
theorem dX4_counts_16 : decode cX4_counts 16 = .ok (.iconst 0, 1) := dk_3 (dk_at dksX4_counts_0 16 rfl rfl)
theorem dX4_counts_17 : decode cX4_counts 17 = .ok (.ireturn, 1) := dk_172 (dk_at dksX4_counts_0 17 rfl rfl)
theorem q74 : (Jvm.Cond.initialized "HeirHunters$Adopted") ∈ lw_all := lw_g (lw_at lw_m1 5 rfl) rfl
theorem q316 : (Jvm.Cond.instantiable "HeirHunters$Adopted" (6 : Nat)) ∈ lw_all := lw_g (lw_at lw_m2 7 rfl) rfl
theorem q318 : (Jvm.Cond.instanceMethod ({ cls := "HeirHunters$Adopted", name := "<init>", desc := "(LHeirHunters;III)V" } : Jvm.MethodName)) ∈ lw_all := lw_g (lw_at lw_m2 9 rfl) rfl
theorem q319 : (Jvm.Cond.code ({ cls := "HeirHunters$Adopted", name := "<init>", desc := "(LHeirHunters;III)V" } : Jvm.MethodName) prog_2_method_1_code (5 : Nat) (Option.none : Option Jvm.ClassFile.FieldType)) ∈ lw_all := lw_g (lw_at lw_m2 10 rfl) rfl
theorem q320 : (Jvm.Cond.methodLink "HeirHunters$Adopted" (7 : Nat) ({ cls := "HeirHunters$Line", name := "<init>", desc := "(LHeirHunters;II)V" } : Jvm.MethodName)) ∈ lw_all := lw_g (lw_at lw_m2 11 rfl) rfl
theorem q321 : (Jvm.Cond.fieldLink "HeirHunters$Adopted" (13 : Nat) "HeirHunters$Adopted" "act" "I") ∈ lw_all := lw_g (lw_at lw_m2 12 rfl) rfl
theorem q322 : (Jvm.Cond.fieldLink "HeirHunters$Adopted" (1 : Nat) "HeirHunters$Adopted" "this$0" "LHeirHunters;") ∈ lw_all := lw_g (lw_at lw_m2 13 rfl) rfl
theorem q323 : (Jvm.Cond.laysFinal "HeirHunters$Adopted" "HeirHunters$Adopted" "act" "I") ∈ lw_all := lw_g (lw_at lw_m2 14 rfl) rfl
theorem q324 : (Jvm.Cond.soleField "HeirHunters$Adopted" "act") ∈ lw_all := lw_g (lw_at lw_m2 15 rfl) rfl
theorem q325 : (Jvm.Cond.laysFinal "HeirHunters$Adopted" "HeirHunters$Adopted" "this$0" "LHeirHunters;") ∈ lw_all := lw_g (lw_at lw_m2 16 rfl) rfl
theorem q326 : (Jvm.Cond.soleField "HeirHunters$Adopted" "this$0") ∈ lw_all := lw_g (lw_at lw_m2 17 rfl) rfl
theorem q327 : (Jvm.Cond.laysFinal "HeirHunters$Adopted" "HeirHunters$Line" "parent" "I") ∈ lw_all := lw_g (lw_at lw_m2 18 rfl) rfl
theorem q328 : (Jvm.Cond.laysFinal "HeirHunters$Adopted" "HeirHunters$Line" "child" "I") ∈ lw_all := lw_g (lw_at lw_m2 19 rfl) rfl
theorem q329 : (Jvm.Cond.lays "HeirHunters$Adopted" "HeirHunters$Line" "isStruck" "Z") ∈ lw_all := lw_g (lw_at lw_m2 20 rfl) rfl
theorem q330 : (Jvm.Cond.laysFinal "HeirHunters$Adopted" "HeirHunters$Line" "this$0" "LHeirHunters;") ∈ lw_all := lw_g (lw_at lw_m2 21 rfl) rfl
theorem q331 : (Jvm.Cond.superclass "HeirHunters$Adopted" "HeirHunters$Line") ∈ lw_all := lw_g (lw_at lw_m2 22 rfl) rfl
theorem q348 : (Jvm.Cond.selects "HeirHunters$Adopted" ({ cls := "HeirHunters$Line", name := "kind", desc := "()I" } : Jvm.MethodName) ({ cls := "HeirHunters$Adopted", name := "kind", desc := "()I" } : Jvm.MethodName)) ∈ lw_all := lw_g (lw_at lw_m2 39 rfl) rfl
theorem q349 : (Jvm.Cond.instanceMethod ({ cls := "HeirHunters$Adopted", name := "kind", desc := "()I" } : Jvm.MethodName)) ∈ lw_all := lw_g (lw_at lw_m2 40 rfl) rfl
theorem q350 : (Jvm.Cond.code ({ cls := "HeirHunters$Adopted", name := "kind", desc := "()I" } : Jvm.MethodName) prog_2_method_2_code (1 : Nat) (Option.some Jvm.ClassFile.FieldType.int)) ∈ lw_all := lw_g (lw_at lw_m2 41 rfl) rfl
theorem q464 : (Jvm.Cond.instanceMethod ({ cls := "HeirHunters$Adopted", name := "mark", desc := "()I" } : Jvm.MethodName)) ∈ lw_all := lw_g (lw_at lw_m2 155 rfl) rfl
theorem q465 : (Jvm.Cond.selects "HeirHunters$Adopted" ({ cls := "HeirHunters$Adopted", name := "mark", desc := "()I" } : Jvm.MethodName) ({ cls := "HeirHunters$Adopted", name := "mark", desc := "()I" } : Jvm.MethodName)) ∈ lw_all := lw_g (lw_at lw_m2 156 rfl) rfl
theorem q466 : (Jvm.Cond.code ({ cls := "HeirHunters$Adopted", name := "mark", desc := "()I" } : Jvm.MethodName) prog_2_method_4_code (1 : Nat) (Option.some Jvm.ClassFile.FieldType.int)) ∈ lw_all := lw_g (lw_at lw_m2 157 rfl) rfl
theorem q544 : (Jvm.Cond.castable "HeirHunters$Adopted" "HeirHunters$Counts") ∈ lw_tbl := lw_at lw_m2 235 rfl
theorem q545 : (Jvm.Cond.selects "HeirHunters$Adopted" ({ cls := "HeirHunters$Counts", name := "counts", desc := "(ZI)Z" } : Jvm.MethodName) ({ cls := "HeirHunters$Adopted", name := "counts", desc := "(ZI)Z" } : Jvm.MethodName)) ∈ lw_all := lw_g (lw_at lw_m2 236 rfl) rfl
theorem q546 : (Jvm.Cond.unhidden "HeirHunters$Adopted" "counts" "(ZI)Z") ∈ lw_tbl := lw_at lw_m2 237 rfl
theorem q547 : (Jvm.Cond.instanceMethod ({ cls := "HeirHunters$Adopted", name := "counts", desc := "(ZI)Z" } : Jvm.MethodName)) ∈ lw_all := lw_g (lw_at lw_m2 238 rfl) rfl
theorem q548 : (Jvm.Cond.publicMethod ({ cls := "HeirHunters$Adopted", name := "counts", desc := "(ZI)Z" } : Jvm.MethodName)) ∈ lw_tbl := lw_at lw_m2 239 rfl
theorem q549 : (Jvm.Cond.code ({ cls := "HeirHunters$Adopted", name := "counts", desc := "(ZI)Z" } : Jvm.MethodName) prog_2_method_3_code (3 : Nat) (Option.some Jvm.ClassFile.FieldType.boolean)) ∈ lw_all := lw_g (lw_at lw_m3 0 rfl) rfl
theorem q644 : (Jvm.Cond.selects "HeirHunters$Adopted" ({ cls := "HeirHunters$Line", name := "isOpen", desc := "()Z" } : Jvm.MethodName) ({ cls := "HeirHunters$Line", name := "isOpen", desc := "()Z" } : Jvm.MethodName)) ∈ lw_all := lw_g (lw_at lw_m3 95 rfl) rfl
theorem q694 : (Jvm.Cond.selects "HeirHunters$Adopted" ({ cls := "HeirHunters$Line", name := "mark", desc := "()I" } : Jvm.MethodName) ({ cls := "HeirHunters$Adopted", name := "mark", desc := "()I" } : Jvm.MethodName)) ∈ lw_all := lw_g (lw_at lw_m3 145 rfl) rfl
theorem q1331 : (Jvm.Cond.castable "HeirHunters$Adopted" "HeirHunters$Line") ∈ lw_tbl := lw_at lw_m6 62 rfl
theorem in_X4 : ∀ w ∈ wsX40, w ∈ lw_all := lw_in wsX40 [327, 328, 329, 330, 323, 325] (by decide +kernel) (by decide +kernel)
/-! HeirHunters$Proved -/
set_option maxRecDepth 100000
def RX5 : String := "HeirHunters$Proved"
def TX5 : u_T := fun k => match k with
  | 0 => ("HeirHunters$Line", "parent", "I", true)
  | 1 => ("HeirHunters$Line", "child", "I", true)
  | 2 => ("HeirHunters$Line", "isStruck", "Z", false)
  | 3 => ("HeirHunters$Line", "this$0", "LHeirHunters;", true)
  | 4 => ("HeirHunters$Claimed", "cost", "I", true)
  | 5 => ("HeirHunters$Claimed", "this$0", "LHeirHunters;", true)
  | 6 => ("HeirHunters$Proved", "day", "I", true)
  | _ => ("HeirHunters$Proved", "this$0", "LHeirHunters;", true)
def tyX5 : Nat → FieldType := fun k => match k with
  | 0 => .int
  | 1 => .int
  | 2 => .boolean
  | 3 => .object "HeirHunters"
  | 4 => .int
  | 5 => .object "HeirHunters"
  | 6 => .int
  | _ => .object "HeirHunters"
abbrev wsX50 : List Cond := u_ws RX5 TX5 8
-- two fields of one name: no nmX5
theorem tyX5_ok : ∀ k, k < 8 → parseFieldDescriptor (TX5 k).2.2.1 = some (tyX5 k) := by decide +kernel
abbrev cX5_kind : ByteArray := prog_6_method_2_code
def yX5_kind : MethodName := ⟨RX5, "kind", "()I"⟩
def dkwX5_kind_0 : List UInt8 := [42, 183, 0, 26, 4, 96, 172]
abbrev dktX5_kind_0 : List UInt8 := dkwX5_kind_0 ++ []
theorem dksX5_kind_0 : cX5_kind.data.toList.drop 0 = dktX5_kind_0 := by decide +kernel
theorem dX5_kind_0 : decode cX5_kind 0 = .ok (.aload_n 0, 1) := dk_42 (dk_at dksX5_kind_0 0 rfl rfl)
theorem dX5_kind_1 : decode cX5_kind 1 = .ok (.invokespecial 26, 3) := dk_183 0 26 (dk_at dksX5_kind_0 1 rfl rfl)
theorem dX5_kind_4 : decode cX5_kind 4 = .ok (.iconst 1, 1) := dk_4 (dk_at dksX5_kind_0 4 rfl rfl)
theorem dX5_kind_5 : decode cX5_kind 5 = .ok (.iadd, 1) := dk_96 (dk_at dksX5_kind_0 5 rfl rfl)
theorem dX5_kind_6 : decode cX5_kind 6 = .ok (.ireturn, 1) := dk_172 (dk_at dksX5_kind_0 6 rfl rfl)
abbrev cX5_asClaimed : ByteArray := prog_6_method_5_code
def yX5_asClaimed : MethodName := ⟨RX5, "asClaimed", "()I"⟩
theorem dX5_asClaimed_0 : decode cX5_asClaimed 0 = .ok (.aload_n 0, 1) := by decide +kernel
theorem dX5_asClaimed_1 : decode cX5_asClaimed 1 = .ok (.invokespecial 30, 3) := by decide +kernel
theorem dX5_asClaimed_4 : decode cX5_asClaimed 4 = .ok (.ireturn, 1) := by decide +kernel
abbrev cX5_mark : ByteArray := prog_6_method_4_code
def yX5_mark : MethodName := ⟨RX5, "mark", "()I"⟩
theorem dX5_mark_0 : decode cX5_mark 0 = .ok (.aload_n 0, 1) := by decide +kernel
theorem dX5_mark_1 : decode cX5_mark 1 = .ok (.getfield 23, 3) := by decide +kernel
theorem dX5_mark_4 : decode cX5_mark 4 = .ok (.ireturn, 1) := by decide +kernel
abbrev cX5_init : ByteArray := prog_6_method_1_code
def yX5_init : MethodName := ⟨RX5, "<init>", "(LHeirHunters;LHeirHunters$Claimed;I)V"⟩
def dkwX5_init_1 : List UInt8 := [181, 0, 23, 177]
abbrev dktX5_init_1 : List UInt8 := dkwX5_init_1 ++ []
def dkwX5_init_0 : List UInt8 := [42, 43, 181, 0, 1, 42, 43, 44, 180, 0, 7, 44, 180, 0, 13, 44, 180, 0, 16, 183, 0, 19, 42, 29]
abbrev dktX5_init_0 : List UInt8 := dkwX5_init_0 ++ dktX5_init_1
theorem dksX5_init_0 : cX5_init.data.toList.drop 0 = dktX5_init_0 := by decide +kernel
theorem dksX5_init_1 : cX5_init.data.toList.drop 24 = dktX5_init_1 := dk_seg dksX5_init_0 24 rfl rfl
theorem dX5_init_0 : decode cX5_init 0 = .ok (.aload_n 0, 1) := dk_42 (dk_at dksX5_init_0 0 rfl rfl)
theorem dX5_init_1 : decode cX5_init 1 = .ok (.aload_n 1, 1) := dk_43 (dk_at dksX5_init_0 1 rfl rfl)
theorem dX5_init_2 : decode cX5_init 2 = .ok (.putfield 1, 3) := dk_181 0 1 (dk_at dksX5_init_0 2 rfl rfl)
theorem dX5_init_5 : decode cX5_init 5 = .ok (.aload_n 0, 1) := dk_42 (dk_at dksX5_init_0 5 rfl rfl)
theorem dX5_init_6 : decode cX5_init 6 = .ok (.aload_n 1, 1) := dk_43 (dk_at dksX5_init_0 6 rfl rfl)
theorem dX5_init_7 : decode cX5_init 7 = .ok (.aload_n 2, 1) := dk_44 (dk_at dksX5_init_0 7 rfl rfl)
theorem dX5_init_8 : decode cX5_init 8 = .ok (.getfield 7, 3) := dk_180 0 7 (dk_at dksX5_init_0 8 rfl rfl)
theorem dX5_init_11 : decode cX5_init 11 = .ok (.aload_n 2, 1) := dk_44 (dk_at dksX5_init_0 11 rfl rfl)
theorem dX5_init_12 : decode cX5_init 12 = .ok (.getfield 13, 3) := dk_180 0 13 (dk_at dksX5_init_0 12 rfl rfl)
theorem dX5_init_15 : decode cX5_init 15 = .ok (.aload_n 2, 1) := dk_44 (dk_at dksX5_init_0 15 rfl rfl)
theorem dX5_init_16 : decode cX5_init 16 = .ok (.getfield 16, 3) := dk_180 0 16 (dk_at dksX5_init_0 16 rfl rfl)
theorem dX5_init_19 : decode cX5_init 19 = .ok (.invokespecial 19, 3) := dk_183 0 19 (dk_at dksX5_init_0 19 rfl rfl)
theorem dX5_init_22 : decode cX5_init 22 = .ok (.aload_n 0, 1) := dk_42 (dk_at dksX5_init_0 22 rfl rfl)
theorem dX5_init_23 : decode cX5_init 23 = .ok (.iload_n 3, 1) := dk_29 (dk_at dksX5_init_0 23 rfl rfl)
theorem dX5_init_24 : decode cX5_init 24 = .ok (.putfield 23, 3) := dk_181 0 23 (dk_at dksX5_init_1 0 rfl rfl)
theorem dX5_init_27 : decode cX5_init 27 = .ok (.return_, 1) := dk_177 (dk_at dksX5_init_1 3 rfl rfl)
abbrev cX5_isOpen : ByteArray := prog_6_method_3_code
def yX5_isOpen : MethodName := ⟨RX5, "isOpen", "()Z"⟩
theorem dX5_isOpen_0 : decode cX5_isOpen 0 = .ok (.iconst 0, 1) := by decide +kernel
theorem dX5_isOpen_1 : decode cX5_isOpen 1 = .ok (.ireturn, 1) := by decide +kernel
theorem q80 : (Jvm.Cond.initialized "HeirHunters$Proved") ∈ lw_all := lw_g (lw_at lw_m1 11 rfl) rfl
theorem q276 : (Jvm.Cond.fieldLink "HeirHunters$Proved" (7 : Nat) "HeirHunters$Claimed" "parent" "I") ∈ lw_all := lw_g (lw_at lw_m1 207 rfl) rfl
theorem q280 : (Jvm.Cond.fieldLink "HeirHunters$Proved" (13 : Nat) "HeirHunters$Claimed" "child" "I") ∈ lw_all := lw_g (lw_at lw_m1 211 rfl) rfl
theorem q304 : (Jvm.Cond.fieldLink "HeirHunters$Proved" (16 : Nat) "HeirHunters$Claimed" "cost" "I") ∈ lw_all := lw_g (lw_at lw_m1 235 rfl) rfl
theorem q355 : (Jvm.Cond.selects "HeirHunters$Proved" ({ cls := "HeirHunters$Line", name := "kind", desc := "()I" } : Jvm.MethodName) ({ cls := "HeirHunters$Proved", name := "kind", desc := "()I" } : Jvm.MethodName)) ∈ lw_all := lw_g (lw_at lw_m2 46 rfl) rfl
theorem q356 : (Jvm.Cond.instanceMethod ({ cls := "HeirHunters$Proved", name := "kind", desc := "()I" } : Jvm.MethodName)) ∈ lw_all := lw_g (lw_at lw_m2 47 rfl) rfl
theorem q357 : (Jvm.Cond.code ({ cls := "HeirHunters$Proved", name := "kind", desc := "()I" } : Jvm.MethodName) prog_6_method_2_code (1 : Nat) (Option.some Jvm.ClassFile.FieldType.int)) ∈ lw_all := lw_g (lw_at lw_m2 48 rfl) rfl
theorem q358 : (Jvm.Cond.methodLink "HeirHunters$Proved" (26 : Nat) ({ cls := "HeirHunters$Claimed", name := "kind", desc := "()I" } : Jvm.MethodName)) ∈ lw_all := lw_g (lw_at lw_m2 49 rfl) rfl
theorem q359 : (Jvm.Cond.superclass "HeirHunters$Proved" "HeirHunters$Claimed") ∈ lw_all := lw_g (lw_at lw_m2 50 rfl) rfl
theorem q453 : (Jvm.Cond.instanceMethod ({ cls := "HeirHunters$Proved", name := "asClaimed", desc := "()I" } : Jvm.MethodName)) ∈ lw_all := lw_g (lw_at lw_m2 144 rfl) rfl
theorem q454 : (Jvm.Cond.selects "HeirHunters$Proved" ({ cls := "HeirHunters$Proved", name := "asClaimed", desc := "()I" } : Jvm.MethodName) ({ cls := "HeirHunters$Proved", name := "asClaimed", desc := "()I" } : Jvm.MethodName)) ∈ lw_all := lw_g (lw_at lw_m2 145 rfl) rfl
theorem q455 : (Jvm.Cond.code ({ cls := "HeirHunters$Proved", name := "asClaimed", desc := "()I" } : Jvm.MethodName) prog_6_method_5_code (1 : Nat) (Option.some Jvm.ClassFile.FieldType.int)) ∈ lw_all := lw_g (lw_at lw_m2 146 rfl) rfl
theorem q456 : (Jvm.Cond.methodLink "HeirHunters$Proved" (30 : Nat) ({ cls := "HeirHunters$Claimed", name := "mark", desc := "()I" } : Jvm.MethodName)) ∈ lw_all := lw_g (lw_at lw_m2 147 rfl) rfl
theorem q460 : (Jvm.Cond.instanceMethod ({ cls := "HeirHunters$Proved", name := "mark", desc := "()I" } : Jvm.MethodName)) ∈ lw_all := lw_g (lw_at lw_m2 151 rfl) rfl
theorem q461 : (Jvm.Cond.code ({ cls := "HeirHunters$Proved", name := "mark", desc := "()I" } : Jvm.MethodName) prog_6_method_4_code (1 : Nat) (Option.some Jvm.ClassFile.FieldType.int)) ∈ lw_all := lw_g (lw_at lw_m2 152 rfl) rfl
theorem q475 : (Jvm.Cond.instantiable "HeirHunters$Proved" (8 : Nat)) ∈ lw_all := lw_g (lw_at lw_m2 166 rfl) rfl
theorem q477 : (Jvm.Cond.instanceMethod ({ cls := "HeirHunters$Proved", name := "<init>", desc := "(LHeirHunters;LHeirHunters$Claimed;I)V" } : Jvm.MethodName)) ∈ lw_all := lw_g (lw_at lw_m2 168 rfl) rfl
theorem q478 : (Jvm.Cond.code ({ cls := "HeirHunters$Proved", name := "<init>", desc := "(LHeirHunters;LHeirHunters$Claimed;I)V" } : Jvm.MethodName) prog_6_method_1_code (4 : Nat) (Option.none : Option Jvm.ClassFile.FieldType)) ∈ lw_all := lw_g (lw_at lw_m2 169 rfl) rfl
theorem q479 : (Jvm.Cond.methodLink "HeirHunters$Proved" (19 : Nat) ({ cls := "HeirHunters$Claimed", name := "<init>", desc := "(LHeirHunters;III)V" } : Jvm.MethodName)) ∈ lw_all := lw_g (lw_at lw_m2 170 rfl) rfl
theorem q480 : (Jvm.Cond.fieldLink "HeirHunters$Proved" (23 : Nat) "HeirHunters$Proved" "day" "I") ∈ lw_all := lw_g (lw_at lw_m2 171 rfl) rfl
theorem q481 : (Jvm.Cond.fieldLink "HeirHunters$Proved" (1 : Nat) "HeirHunters$Proved" "this$0" "LHeirHunters;") ∈ lw_all := lw_g (lw_at lw_m2 172 rfl) rfl
theorem q482 : (Jvm.Cond.laysFinal "HeirHunters$Proved" "HeirHunters$Proved" "day" "I") ∈ lw_all := lw_g (lw_at lw_m2 173 rfl) rfl
theorem q483 : (Jvm.Cond.soleField "HeirHunters$Proved" "day") ∈ lw_all := lw_g (lw_at lw_m2 174 rfl) rfl
theorem q484 : (Jvm.Cond.laysFinal "HeirHunters$Proved" "HeirHunters$Proved" "this$0" "LHeirHunters;") ∈ lw_all := lw_g (lw_at lw_m2 175 rfl) rfl
theorem q485 : (Jvm.Cond.soleField "HeirHunters$Proved" "this$0") ∈ lw_all := lw_g (lw_at lw_m2 176 rfl) rfl
theorem q486 : (Jvm.Cond.laysFinal "HeirHunters$Proved" "HeirHunters$Claimed" "cost" "I") ∈ lw_all := lw_g (lw_at lw_m2 177 rfl) rfl
theorem q487 : (Jvm.Cond.laysFinal "HeirHunters$Proved" "HeirHunters$Claimed" "this$0" "LHeirHunters;") ∈ lw_all := lw_g (lw_at lw_m2 178 rfl) rfl
theorem q488 : (Jvm.Cond.laysFinal "HeirHunters$Proved" "HeirHunters$Line" "parent" "I") ∈ lw_all := lw_g (lw_at lw_m2 179 rfl) rfl
theorem q489 : (Jvm.Cond.laysFinal "HeirHunters$Proved" "HeirHunters$Line" "child" "I") ∈ lw_all := lw_g (lw_at lw_m2 180 rfl) rfl
theorem q490 : (Jvm.Cond.lays "HeirHunters$Proved" "HeirHunters$Line" "isStruck" "Z") ∈ lw_all := lw_g (lw_at lw_m2 181 rfl) rfl
theorem q491 : (Jvm.Cond.laysFinal "HeirHunters$Proved" "HeirHunters$Line" "this$0" "LHeirHunters;") ∈ lw_all := lw_g (lw_at lw_m2 182 rfl) rfl
theorem q557 : (Jvm.Cond.castable "HeirHunters$Proved" "HeirHunters$Counts") ∈ lw_tbl := lw_at lw_m3 8 rfl
theorem q558 : (Jvm.Cond.unhidden "HeirHunters$Proved" "counts" "(ZI)Z") ∈ lw_tbl := lw_at lw_m3 9 rfl
theorem q648 : (Jvm.Cond.selects "HeirHunters$Proved" ({ cls := "HeirHunters$Line", name := "isOpen", desc := "()Z" } : Jvm.MethodName) ({ cls := "HeirHunters$Proved", name := "isOpen", desc := "()Z" } : Jvm.MethodName)) ∈ lw_all := lw_g (lw_at lw_m3 99 rfl) rfl
theorem q649 : (Jvm.Cond.instanceMethod ({ cls := "HeirHunters$Proved", name := "isOpen", desc := "()Z" } : Jvm.MethodName)) ∈ lw_all := lw_g (lw_at lw_m3 100 rfl) rfl
theorem q650 : (Jvm.Cond.code ({ cls := "HeirHunters$Proved", name := "isOpen", desc := "()Z" } : Jvm.MethodName) prog_6_method_3_code (1 : Nat) (Option.some Jvm.ClassFile.FieldType.boolean)) ∈ lw_all := lw_g (lw_at lw_m3 101 rfl) rfl
theorem q696 : (Jvm.Cond.selects "HeirHunters$Proved" ({ cls := "HeirHunters$Line", name := "mark", desc := "()I" } : Jvm.MethodName) ({ cls := "HeirHunters$Proved", name := "mark", desc := "()I" } : Jvm.MethodName)) ∈ lw_all := lw_g (lw_at lw_m3 147 rfl) rfl
theorem q1326 : (Jvm.Cond.selects "HeirHunters$Proved" ({ cls := "HeirHunters$Claimed", name := "mark", desc := "()I" } : Jvm.MethodName) ({ cls := "HeirHunters$Proved", name := "mark", desc := "()I" } : Jvm.MethodName)) ∈ lw_all := lw_g (lw_at lw_m6 57 rfl) rfl
theorem q1327 : (Jvm.Cond.selects "HeirHunters$Proved" ({ cls := "HeirHunters$Proved", name := "mark", desc := "()I" } : Jvm.MethodName) ({ cls := "HeirHunters$Proved", name := "mark", desc := "()I" } : Jvm.MethodName)) ∈ lw_all := lw_g (lw_at lw_m6 58 rfl) rfl
theorem q1329 : (Jvm.Cond.castable "HeirHunters$Proved" "HeirHunters$Claimed") ∈ lw_tbl := lw_at lw_m6 60 rfl
theorem q1332 : (Jvm.Cond.castable "HeirHunters$Proved" "HeirHunters$Line") ∈ lw_tbl := lw_at lw_m6 63 rfl
theorem in_X5 : ∀ w ∈ wsX50, w ∈ lw_all := lw_in wsX50 [488, 489, 490, 491, 486, 487, 482, 484] (by decide +kernel) (by decide +kernel)
/-! HeirHunters$Counts -/
set_option maxRecDepth 100000
def RX6 : String := "HeirHunters$Counts"
abbrev cX6_counts : ByteArray := prog_4_method_1_code
def yX6_counts : MethodName := ⟨RX6, "counts", "(ZI)Z"⟩
theorem dX6_counts_0 : decode cX6_counts 0 = .ok (.iconst 1, 1) := by decide +kernel
theorem dX6_counts_1 : decode cX6_counts 1 = .ok (.ireturn, 1) := by decide +kernel
theorem q542 : (Jvm.Cond.interfaceMethod "HeirHunters$Counts" "HeirHunters$Counts" "counts" "(ZI)Z") ∈ lw_tbl := lw_at lw_m2 233 rfl
theorem q543 : (Jvm.Cond.declares ({ cls := "HeirHunters$Counts", name := "counts", desc := "(ZI)Z" } : Jvm.MethodName)) ∈ lw_tbl := lw_at lw_m2 234 rfl
theorem q552 : (Jvm.Cond.instanceMethod ({ cls := "HeirHunters$Counts", name := "counts", desc := "(ZI)Z" } : Jvm.MethodName)) ∈ lw_all := lw_g (lw_at lw_m3 3 rfl) rfl
theorem q553 : (Jvm.Cond.publicMethod ({ cls := "HeirHunters$Counts", name := "counts", desc := "(ZI)Z" } : Jvm.MethodName)) ∈ lw_tbl := lw_at lw_m3 4 rfl
theorem q554 : (Jvm.Cond.code ({ cls := "HeirHunters$Counts", name := "counts", desc := "(ZI)Z" } : Jvm.MethodName) prog_4_method_1_code (3 : Nat) (Option.some Jvm.ClassFile.FieldType.boolean)) ∈ lw_all := lw_g (lw_at lw_m3 5 rfl) rfl
/-! java/lang/Throwable -/
set_option maxRecDepth 100000
def RJ0 : String := "java/lang/Throwable"
def TJ0 : u_T := fun k => match k with
  | 0 => ("java/lang/Throwable", "cause", "Ljava/lang/Throwable;", false)
  | 1 => ("java/lang/Throwable", "stackTrace", "[Ljava/lang/StackTraceElement;", false)
  | 2 => ("java/lang/Throwable", "suppressedExceptions", "Ljava/util/List;", false)
  | 3 => ("java/lang/Throwable", "detailMessage", "Ljava/lang/String;", false)
  | _ => ("java/lang/Throwable", "backtrace", "Ljava/lang/Object;", false)
def tyJ0 : Nat → FieldType := fun k => match k with
  | 0 => .object "java/lang/Throwable"
  | 1 => .array (.object "java/lang/StackTraceElement")
  | 2 => .object "java/util/List"
  | 3 => .object "java/lang/String"
  | _ => .object "java/lang/Object"
abbrev wsJ00 : List Cond := u_ws RJ0 TJ0 5
theorem nmJ0 : ∀ a, a < 5 → ∀ b, b < 5 → a ≠ b → (TJ0 a).2.1 ≠ (TJ0 b).2.1 := by decide +kernel
theorem tyJ0_ok : ∀ k, k < 5 → parseFieldDescriptor (TJ0 k).2.2.1 = some (tyJ0 k) := by decide +kernel
abbrev cJ0_init : ByteArray := prog_21_method_2_code
def yJ0_init : MethodName := ⟨RJ0, "<init>", "(Ljava/lang/String;)V"⟩
def dkwJ0_init_1 : List UInt8 := [182, 0, 27, 87, 42, 43, 181, 0, 31, 177]
abbrev dktJ0_init_1 : List UInt8 := dkwJ0_init_1 ++ []
def dkwJ0_init_0 : List UInt8 := [42, 183, 0, 1, 42, 42, 181, 0, 7, 42, 178, 0, 13, 181, 0, 17, 42, 178, 0, 20, 181, 0, 24, 42]
abbrev dktJ0_init_0 : List UInt8 := dkwJ0_init_0 ++ dktJ0_init_1
theorem dksJ0_init_0 : cJ0_init.data.toList.drop 0 = dktJ0_init_0 := by decide +kernel
theorem dksJ0_init_1 : cJ0_init.data.toList.drop 24 = dktJ0_init_1 := dk_seg dksJ0_init_0 24 rfl rfl
theorem dJ0_init_0 : decode cJ0_init 0 = .ok (.aload_n 0, 1) := dk_42 (dk_at dksJ0_init_0 0 rfl rfl)
theorem dJ0_init_1 : decode cJ0_init 1 = .ok (.invokespecial 1, 3) := dk_183 0 1 (dk_at dksJ0_init_0 1 rfl rfl)
theorem dJ0_init_4 : decode cJ0_init 4 = .ok (.aload_n 0, 1) := dk_42 (dk_at dksJ0_init_0 4 rfl rfl)
theorem dJ0_init_5 : decode cJ0_init 5 = .ok (.aload_n 0, 1) := dk_42 (dk_at dksJ0_init_0 5 rfl rfl)
theorem dJ0_init_6 : decode cJ0_init 6 = .ok (.putfield 7, 3) := dk_181 0 7 (dk_at dksJ0_init_0 6 rfl rfl)
theorem dJ0_init_9 : decode cJ0_init 9 = .ok (.aload_n 0, 1) := dk_42 (dk_at dksJ0_init_0 9 rfl rfl)
theorem dJ0_init_10 : decode cJ0_init 10 = .ok (.getstatic 13, 3) := dk_178 0 13 (dk_at dksJ0_init_0 10 rfl rfl)
theorem dJ0_init_13 : decode cJ0_init 13 = .ok (.putfield 17, 3) := dk_181 0 17 (dk_at dksJ0_init_0 13 rfl rfl)
theorem dJ0_init_16 : decode cJ0_init 16 = .ok (.aload_n 0, 1) := dk_42 (dk_at dksJ0_init_0 16 rfl rfl)
theorem dJ0_init_17 : decode cJ0_init 17 = .ok (.getstatic 20, 3) := dk_178 0 20 (dk_at dksJ0_init_0 17 rfl rfl)
theorem dJ0_init_20 : decode cJ0_init 20 = .ok (.putfield 24, 3) := dk_181 0 24 (dk_at dksJ0_init_0 20 rfl rfl)
theorem dJ0_init_23 : decode cJ0_init 23 = .ok (.aload_n 0, 1) := dk_42 (dk_at dksJ0_init_0 23 rfl rfl)
theorem dJ0_init_24 : decode cJ0_init 24 = .ok (.invokevirtual 27, 3) := dk_182 0 27 (dk_at dksJ0_init_1 0 rfl rfl)
theorem dJ0_init_27 : decode cJ0_init 27 = .ok (.pop, 1) := dk_87 (dk_at dksJ0_init_1 3 rfl rfl)
theorem dJ0_init_28 : decode cJ0_init 28 = .ok (.aload_n 0, 1) := dk_42 (dk_at dksJ0_init_1 4 rfl rfl)
theorem dJ0_init_29 : decode cJ0_init 29 = .ok (.aload_n 1, 1) := dk_43 (dk_at dksJ0_init_1 5 rfl rfl)
theorem dJ0_init_30 : decode cJ0_init 30 = .ok (.putfield 31, 3) := dk_181 0 31 (dk_at dksJ0_init_1 6 rfl rfl)
theorem dJ0_init_33 : decode cJ0_init 33 = .ok (.return_, 1) := dk_177 (dk_at dksJ0_init_1 9 rfl rfl)
abbrev cJ0_init_2 : ByteArray := prog_21_method_1_code
def yJ0_init_2 : MethodName := ⟨RJ0, "<init>", "()V"⟩
def dkwJ0_init_2_1 : List UInt8 := [182, 0, 27, 87, 177]
abbrev dktJ0_init_2_1 : List UInt8 := dkwJ0_init_2_1 ++ []
def dkwJ0_init_2_0 : List UInt8 := [42, 183, 0, 1, 42, 42, 181, 0, 7, 42, 178, 0, 13, 181, 0, 17, 42, 178, 0, 20, 181, 0, 24, 42]
abbrev dktJ0_init_2_0 : List UInt8 := dkwJ0_init_2_0 ++ dktJ0_init_2_1
theorem dksJ0_init_2_0 : cJ0_init_2.data.toList.drop 0 = dktJ0_init_2_0 := by decide +kernel
theorem dksJ0_init_2_1 : cJ0_init_2.data.toList.drop 24 = dktJ0_init_2_1 := dk_seg dksJ0_init_2_0 24 rfl rfl
theorem dJ0_init_2_0 : decode cJ0_init_2 0 = .ok (.aload_n 0, 1) := dk_42 (dk_at dksJ0_init_2_0 0 rfl rfl)
theorem dJ0_init_2_1 : decode cJ0_init_2 1 = .ok (.invokespecial 1, 3) := dk_183 0 1 (dk_at dksJ0_init_2_0 1 rfl rfl)
theorem dJ0_init_2_4 : decode cJ0_init_2 4 = .ok (.aload_n 0, 1) := dk_42 (dk_at dksJ0_init_2_0 4 rfl rfl)
theorem dJ0_init_2_5 : decode cJ0_init_2 5 = .ok (.aload_n 0, 1) := dk_42 (dk_at dksJ0_init_2_0 5 rfl rfl)
theorem dJ0_init_2_6 : decode cJ0_init_2 6 = .ok (.putfield 7, 3) := dk_181 0 7 (dk_at dksJ0_init_2_0 6 rfl rfl)
theorem dJ0_init_2_9 : decode cJ0_init_2 9 = .ok (.aload_n 0, 1) := dk_42 (dk_at dksJ0_init_2_0 9 rfl rfl)
theorem dJ0_init_2_10 : decode cJ0_init_2 10 = .ok (.getstatic 13, 3) := dk_178 0 13 (dk_at dksJ0_init_2_0 10 rfl rfl)
theorem dJ0_init_2_13 : decode cJ0_init_2 13 = .ok (.putfield 17, 3) := dk_181 0 17 (dk_at dksJ0_init_2_0 13 rfl rfl)
theorem dJ0_init_2_16 : decode cJ0_init_2 16 = .ok (.aload_n 0, 1) := dk_42 (dk_at dksJ0_init_2_0 16 rfl rfl)
theorem dJ0_init_2_17 : decode cJ0_init_2 17 = .ok (.getstatic 20, 3) := dk_178 0 20 (dk_at dksJ0_init_2_0 17 rfl rfl)
theorem dJ0_init_2_20 : decode cJ0_init_2 20 = .ok (.putfield 24, 3) := dk_181 0 24 (dk_at dksJ0_init_2_0 20 rfl rfl)
theorem dJ0_init_2_23 : decode cJ0_init_2 23 = .ok (.aload_n 0, 1) := dk_42 (dk_at dksJ0_init_2_0 23 rfl rfl)
theorem dJ0_init_2_24 : decode cJ0_init_2 24 = .ok (.invokevirtual 27, 3) := dk_182 0 27 (dk_at dksJ0_init_2_1 0 rfl rfl)
theorem dJ0_init_2_27 : decode cJ0_init_2 27 = .ok (.pop, 1) := dk_87 (dk_at dksJ0_init_2_1 3 rfl rfl)
theorem dJ0_init_2_28 : decode cJ0_init_2 28 = .ok (.return_, 1) := dk_177 (dk_at dksJ0_init_2_1 4 rfl rfl)
theorem q75 : (Jvm.Cond.initialized "java/lang/Throwable") ∈ lw_all := lw_g (lw_at lw_m1 6 rfl) rfl
theorem q376 : (Jvm.Cond.instanceMethod ({ cls := "java/lang/Throwable", name := "<init>", desc := "(Ljava/lang/String;)V" } : Jvm.MethodName)) ∈ lw_all := lw_g (lw_at lw_m2 67 rfl) rfl
theorem q377 : (Jvm.Cond.code ({ cls := "java/lang/Throwable", name := "<init>", desc := "(Ljava/lang/String;)V" } : Jvm.MethodName) prog_21_method_2_code (2 : Nat) (Option.none : Option Jvm.ClassFile.FieldType)) ∈ lw_all := lw_g (lw_at lw_m2 68 rfl) rfl
theorem q378 : (Jvm.Cond.methodLink "java/lang/Throwable" (1 : Nat) ({ cls := "java/lang/Object", name := "<init>", desc := "()V" } : Jvm.MethodName)) ∈ lw_all := lw_g (lw_at lw_m2 69 rfl) rfl
theorem q379 : (Jvm.Cond.fieldLink "java/lang/Throwable" (13 : Nat) "java/lang/Throwable" "UNASSIGNED_STACK" "[Ljava/lang/StackTraceElement;") ∈ lw_all := lw_g (lw_at lw_m2 70 rfl) rfl
theorem q380 : (Jvm.Cond.laysStatic "java/lang/Throwable" "UNASSIGNED_STACK" "[Ljava/lang/StackTraceElement;") ∈ lw_tbl := lw_at lw_m2 71 rfl
theorem q381 : (Jvm.Cond.fieldLink "java/lang/Throwable" (20 : Nat) "java/lang/Throwable" "SUPPRESSED_SENTINEL" "Ljava/util/List;") ∈ lw_all := lw_g (lw_at lw_m2 72 rfl) rfl
theorem q382 : (Jvm.Cond.laysStatic "java/lang/Throwable" "SUPPRESSED_SENTINEL" "Ljava/util/List;") ∈ lw_tbl := lw_at lw_m2 73 rfl
theorem q383 : (Jvm.Cond.methodLink "java/lang/Throwable" (27 : Nat) ({ cls := "java/lang/Throwable", name := "fillInStackTrace", desc := "()Ljava/lang/Throwable;" } : Jvm.MethodName)) ∈ lw_all := lw_g (lw_at lw_m2 74 rfl) rfl
theorem q384 : (Jvm.Cond.instanceMethod ({ cls := "java/lang/Throwable", name := "fillInStackTrace", desc := "()Ljava/lang/Throwable;" } : Jvm.MethodName)) ∈ lw_all := lw_g (lw_at lw_m2 75 rfl) rfl
theorem q385 : (Jvm.Cond.sameMethod "java/lang/Throwable" "java/lang/Throwable" "fillInStackTrace" "()Ljava/lang/Throwable;") ∈ lw_all := lw_g (lw_at lw_m2 76 rfl) rfl
theorem q400 : (Jvm.Cond.declares ({ cls := "java/lang/Throwable", name := "fillInStackTrace", desc := "()Ljava/lang/Throwable;" } : Jvm.MethodName)) ∈ lw_tbl := lw_at lw_m2 91 rfl
theorem q404 : (Jvm.Cond.codeSync ({ cls := "java/lang/Throwable", name := "fillInStackTrace", desc := "()Ljava/lang/Throwable;" } : Jvm.MethodName) prog_21_method_18_code (1 : Nat) (Option.some (Jvm.ClassFile.FieldType.object "java/lang/Throwable"))) ∈ lw_all := lw_g (lw_at lw_m2 95 rfl) rfl
theorem q405 : (Jvm.Cond.methodLink "java/lang/Throwable" (202 : Nat) ({ cls := "java/lang/Throwable", name := "fillInStackTrace", desc := "(I)Ljava/lang/Throwable;" } : Jvm.MethodName)) ∈ lw_all := lw_g (lw_at lw_m2 96 rfl) rfl
theorem q406 : (Jvm.Cond.privateMethod ({ cls := "java/lang/Throwable", name := "fillInStackTrace", desc := "(I)Ljava/lang/Throwable;" } : Jvm.MethodName)) ∈ lw_tbl := lw_at lw_m2 97 rfl
theorem q407 : (Jvm.Cond.instanceMethod ({ cls := "java/lang/Throwable", name := "fillInStackTrace", desc := "(I)Ljava/lang/Throwable;" } : Jvm.MethodName)) ∈ lw_all := lw_g (lw_at lw_m2 98 rfl) rfl
theorem q408 : (Jvm.Cond.instantiable "java/lang/Throwable" (6 : Nat)) ∈ lw_all := lw_g (lw_at lw_m2 99 rfl) rfl
theorem q409 : (Jvm.Cond.native ({ cls := "java/lang/Throwable", name := "fillInStackTrace", desc := "(I)Ljava/lang/Throwable;" } : Jvm.MethodName)) ∈ lw_all := lw_g (lw_at lw_m2 100 rfl) rfl
theorem q410 : (Jvm.Cond.fieldLink "java/lang/Throwable" (198 : Nat) "java/lang/Throwable" "backtrace" "Ljava/lang/Object;") ∈ lw_all := lw_g (lw_at lw_m2 101 rfl) rfl
theorem q411 : (Jvm.Cond.fieldLink "java/lang/Throwable" (31 : Nat) "java/lang/Throwable" "detailMessage" "Ljava/lang/String;") ∈ lw_all := lw_g (lw_at lw_m2 102 rfl) rfl
theorem q412 : (Jvm.Cond.fieldLink "java/lang/Throwable" (7 : Nat) "java/lang/Throwable" "cause" "Ljava/lang/Throwable;") ∈ lw_all := lw_g (lw_at lw_m2 103 rfl) rfl
theorem q413 : (Jvm.Cond.fieldLink "java/lang/Throwable" (17 : Nat) "java/lang/Throwable" "stackTrace" "[Ljava/lang/StackTraceElement;") ∈ lw_all := lw_g (lw_at lw_m2 104 rfl) rfl
theorem q414 : (Jvm.Cond.fieldLink "java/lang/Throwable" (24 : Nat) "java/lang/Throwable" "suppressedExceptions" "Ljava/util/List;") ∈ lw_all := lw_g (lw_at lw_m2 105 rfl) rfl
theorem q416 : (Jvm.Cond.soleField "java/lang/Throwable" "backtrace") ∈ lw_all := lw_g (lw_at lw_m2 107 rfl) rfl
theorem q418 : (Jvm.Cond.soleField "java/lang/Throwable" "detailMessage") ∈ lw_all := lw_g (lw_at lw_m2 109 rfl) rfl
theorem q420 : (Jvm.Cond.soleField "java/lang/Throwable" "cause") ∈ lw_all := lw_g (lw_at lw_m2 111 rfl) rfl
theorem q422 : (Jvm.Cond.soleField "java/lang/Throwable" "stackTrace") ∈ lw_all := lw_g (lw_at lw_m2 113 rfl) rfl
theorem q424 : (Jvm.Cond.soleField "java/lang/Throwable" "depth") ∈ lw_all := lw_g (lw_at lw_m2 115 rfl) rfl
theorem q426 : (Jvm.Cond.soleField "java/lang/Throwable" "suppressedExceptions") ∈ lw_all := lw_g (lw_at lw_m2 117 rfl) rfl
theorem q433 : (Jvm.Cond.declares ({ cls := "java/lang/Throwable", name := "<init>", desc := "()V" } : Jvm.MethodName)) ∈ lw_tbl := lw_at lw_m2 124 rfl
theorem q434 : (Jvm.Cond.declares ({ cls := "java/lang/Throwable", name := "<init>", desc := "(Ljava/lang/String;)V" } : Jvm.MethodName)) ∈ lw_tbl := lw_at lw_m2 125 rfl
theorem q436 : (Jvm.Cond.lays "java/lang/Throwable" "java/lang/Throwable" "cause" "Ljava/lang/Throwable;") ∈ lw_all := lw_g (lw_at lw_m2 127 rfl) rfl
theorem q437 : (Jvm.Cond.lays "java/lang/Throwable" "java/lang/Throwable" "stackTrace" "[Ljava/lang/StackTraceElement;") ∈ lw_all := lw_g (lw_at lw_m2 128 rfl) rfl
theorem q438 : (Jvm.Cond.lays "java/lang/Throwable" "java/lang/Throwable" "suppressedExceptions" "Ljava/util/List;") ∈ lw_all := lw_g (lw_at lw_m2 129 rfl) rfl
theorem q439 : (Jvm.Cond.lays "java/lang/Throwable" "java/lang/Throwable" "detailMessage" "Ljava/lang/String;") ∈ lw_all := lw_g (lw_at lw_m2 130 rfl) rfl
theorem q440 : (Jvm.Cond.lays "java/lang/Throwable" "java/lang/Throwable" "backtrace" "Ljava/lang/Object;") ∈ lw_all := lw_g (lw_at lw_m2 131 rfl) rfl
theorem q441 : (Jvm.Cond.fieldLink "java/lang/Throwable" (198 : Nat) "java/lang/Throwable" "backtrace" "Ljava/lang/Object;") ∈ lw_all := lw_g (lw_at lw_m2 132 rfl) rfl
theorem q442 : (Jvm.Cond.superclass "java/lang/Throwable" "java/lang/Object") ∈ lw_all := lw_g (lw_at lw_m2 133 rfl) rfl
theorem q443 : (Jvm.Cond.instanceMethod ({ cls := "java/lang/Throwable", name := "<init>", desc := "()V" } : Jvm.MethodName)) ∈ lw_all := lw_g (lw_at lw_m2 134 rfl) rfl
theorem q444 : (Jvm.Cond.code ({ cls := "java/lang/Throwable", name := "<init>", desc := "()V" } : Jvm.MethodName) prog_21_method_1_code (1 : Nat) (Option.none : Option Jvm.ClassFile.FieldType)) ∈ lw_all := lw_g (lw_at lw_m2 135 rfl) rfl
theorem q1323 : (Jvm.Cond.sameMethod "java/lang/Throwable" "java/lang/Throwable" "fillInStackTrace" "(I)Ljava/lang/Throwable;") ∈ lw_all := lw_g (lw_at lw_m6 54 rfl) rfl
theorem in_J0 : ∀ w ∈ wsJ00, w ∈ lw_all := lw_in wsJ00 [436, 437, 438, 439, 440] (by decide +kernel) (by decide +kernel)
/-! java/lang/Exception -/
set_option maxRecDepth 100000
def RJ1 : String := "java/lang/Exception"
abbrev cJ1_init : ByteArray := prog_12_method_2_code
def yJ1_init : MethodName := ⟨RJ1, "<init>", "(Ljava/lang/String;)V"⟩
def dkwJ1_init_0 : List UInt8 := [42, 43, 183, 0, 7, 177]
abbrev dktJ1_init_0 : List UInt8 := dkwJ1_init_0 ++ []
theorem dksJ1_init_0 : cJ1_init.data.toList.drop 0 = dktJ1_init_0 := by decide +kernel
theorem dJ1_init_0 : decode cJ1_init 0 = .ok (.aload_n 0, 1) := dk_42 (dk_at dksJ1_init_0 0 rfl rfl)
theorem dJ1_init_1 : decode cJ1_init 1 = .ok (.aload_n 1, 1) := dk_43 (dk_at dksJ1_init_0 1 rfl rfl)
theorem dJ1_init_2 : decode cJ1_init 2 = .ok (.invokespecial 7, 3) := dk_183 0 7 (dk_at dksJ1_init_0 2 rfl rfl)
theorem dJ1_init_5 : decode cJ1_init 5 = .ok (.return_, 1) := dk_177 (dk_at dksJ1_init_0 5 rfl rfl)
abbrev cJ1_init_2 : ByteArray := prog_12_method_1_code
def yJ1_init_2 : MethodName := ⟨RJ1, "<init>", "()V"⟩
theorem dJ1_init_2_0 : decode cJ1_init_2 0 = .ok (.aload_n 0, 1) := by decide +kernel
theorem dJ1_init_2_1 : decode cJ1_init_2 1 = .ok (.invokespecial 1, 3) := by decide +kernel
theorem dJ1_init_2_4 : decode cJ1_init_2 4 = .ok (.return_, 1) := by decide +kernel
theorem q76 : (Jvm.Cond.initialized "java/lang/Exception") ∈ lw_all := lw_g (lw_at lw_m1 7 rfl) rfl
theorem q373 : (Jvm.Cond.instanceMethod ({ cls := "java/lang/Exception", name := "<init>", desc := "(Ljava/lang/String;)V" } : Jvm.MethodName)) ∈ lw_all := lw_g (lw_at lw_m2 64 rfl) rfl
theorem q374 : (Jvm.Cond.code ({ cls := "java/lang/Exception", name := "<init>", desc := "(Ljava/lang/String;)V" } : Jvm.MethodName) prog_12_method_2_code (2 : Nat) (Option.none : Option Jvm.ClassFile.FieldType)) ∈ lw_all := lw_g (lw_at lw_m2 65 rfl) rfl
theorem q375 : (Jvm.Cond.methodLink "java/lang/Exception" (7 : Nat) ({ cls := "java/lang/Throwable", name := "<init>", desc := "(Ljava/lang/String;)V" } : Jvm.MethodName)) ∈ lw_all := lw_g (lw_at lw_m2 66 rfl) rfl
theorem q403 : (Jvm.Cond.superclass "java/lang/Exception" "java/lang/Throwable") ∈ lw_all := lw_g (lw_at lw_m2 94 rfl) rfl
theorem q431 : (Jvm.Cond.declares ({ cls := "java/lang/Exception", name := "<init>", desc := "()V" } : Jvm.MethodName)) ∈ lw_tbl := lw_at lw_m2 122 rfl
theorem q432 : (Jvm.Cond.declares ({ cls := "java/lang/Exception", name := "<init>", desc := "(Ljava/lang/String;)V" } : Jvm.MethodName)) ∈ lw_tbl := lw_at lw_m2 123 rfl
theorem q794 : (Jvm.Cond.instanceMethod ({ cls := "java/lang/Exception", name := "<init>", desc := "()V" } : Jvm.MethodName)) ∈ lw_all := lw_g (lw_at lw_m4 5 rfl) rfl
theorem q795 : (Jvm.Cond.code ({ cls := "java/lang/Exception", name := "<init>", desc := "()V" } : Jvm.MethodName) prog_12_method_1_code (1 : Nat) (Option.none : Option Jvm.ClassFile.FieldType)) ∈ lw_all := lw_g (lw_at lw_m4 6 rfl) rfl
theorem q796 : (Jvm.Cond.methodLink "java/lang/Exception" (1 : Nat) ({ cls := "java/lang/Throwable", name := "<init>", desc := "()V" } : Jvm.MethodName)) ∈ lw_all := lw_g (lw_at lw_m4 7 rfl) rfl
/-! java/lang/RuntimeException -/
set_option maxRecDepth 100000
def RJ2 : String := "java/lang/RuntimeException"
abbrev cJ2_init : ByteArray := prog_18_method_2_code
def yJ2_init : MethodName := ⟨RJ2, "<init>", "(Ljava/lang/String;)V"⟩
def dkwJ2_init_0 : List UInt8 := [42, 43, 183, 0, 7, 177]
abbrev dktJ2_init_0 : List UInt8 := dkwJ2_init_0 ++ []
theorem dksJ2_init_0 : cJ2_init.data.toList.drop 0 = dktJ2_init_0 := by decide +kernel
theorem dJ2_init_0 : decode cJ2_init 0 = .ok (.aload_n 0, 1) := dk_42 (dk_at dksJ2_init_0 0 rfl rfl)
theorem dJ2_init_1 : decode cJ2_init 1 = .ok (.aload_n 1, 1) := dk_43 (dk_at dksJ2_init_0 1 rfl rfl)
theorem dJ2_init_2 : decode cJ2_init 2 = .ok (.invokespecial 7, 3) := dk_183 0 7 (dk_at dksJ2_init_0 2 rfl rfl)
theorem dJ2_init_5 : decode cJ2_init 5 = .ok (.return_, 1) := dk_177 (dk_at dksJ2_init_0 5 rfl rfl)
abbrev cJ2_init_2 : ByteArray := prog_18_method_1_code
def yJ2_init_2 : MethodName := ⟨RJ2, "<init>", "()V"⟩
theorem dJ2_init_2_0 : decode cJ2_init_2 0 = .ok (.aload_n 0, 1) := by decide +kernel
theorem dJ2_init_2_1 : decode cJ2_init_2 1 = .ok (.invokespecial 1, 3) := by decide +kernel
theorem dJ2_init_2_4 : decode cJ2_init_2 4 = .ok (.return_, 1) := by decide +kernel
theorem q77 : (Jvm.Cond.initialized "java/lang/RuntimeException") ∈ lw_all := lw_g (lw_at lw_m1 8 rfl) rfl
theorem q370 : (Jvm.Cond.instanceMethod ({ cls := "java/lang/RuntimeException", name := "<init>", desc := "(Ljava/lang/String;)V" } : Jvm.MethodName)) ∈ lw_all := lw_g (lw_at lw_m2 61 rfl) rfl
theorem q371 : (Jvm.Cond.code ({ cls := "java/lang/RuntimeException", name := "<init>", desc := "(Ljava/lang/String;)V" } : Jvm.MethodName) prog_18_method_2_code (2 : Nat) (Option.none : Option Jvm.ClassFile.FieldType)) ∈ lw_all := lw_g (lw_at lw_m2 62 rfl) rfl
theorem q372 : (Jvm.Cond.methodLink "java/lang/RuntimeException" (7 : Nat) ({ cls := "java/lang/Exception", name := "<init>", desc := "(Ljava/lang/String;)V" } : Jvm.MethodName)) ∈ lw_all := lw_g (lw_at lw_m2 63 rfl) rfl
theorem q399 : (Jvm.Cond.sameMethod "java/lang/RuntimeException" "java/lang/Throwable" "fillInStackTrace" "()Ljava/lang/Throwable;") ∈ lw_all := lw_g (lw_at lw_m2 90 rfl) rfl
theorem q402 : (Jvm.Cond.superclass "java/lang/RuntimeException" "java/lang/Exception") ∈ lw_all := lw_g (lw_at lw_m2 93 rfl) rfl
theorem q429 : (Jvm.Cond.declares ({ cls := "java/lang/RuntimeException", name := "<init>", desc := "()V" } : Jvm.MethodName)) ∈ lw_tbl := lw_at lw_m2 120 rfl
theorem q430 : (Jvm.Cond.declares ({ cls := "java/lang/RuntimeException", name := "<init>", desc := "(Ljava/lang/String;)V" } : Jvm.MethodName)) ∈ lw_tbl := lw_at lw_m2 121 rfl
theorem q791 : (Jvm.Cond.instanceMethod ({ cls := "java/lang/RuntimeException", name := "<init>", desc := "()V" } : Jvm.MethodName)) ∈ lw_all := lw_g (lw_at lw_m4 2 rfl) rfl
theorem q792 : (Jvm.Cond.code ({ cls := "java/lang/RuntimeException", name := "<init>", desc := "()V" } : Jvm.MethodName) prog_18_method_1_code (1 : Nat) (Option.none : Option Jvm.ClassFile.FieldType)) ∈ lw_all := lw_g (lw_at lw_m4 3 rfl) rfl
theorem q793 : (Jvm.Cond.methodLink "java/lang/RuntimeException" (1 : Nat) ({ cls := "java/lang/Exception", name := "<init>", desc := "()V" } : Jvm.MethodName)) ∈ lw_all := lw_g (lw_at lw_m4 4 rfl) rfl
theorem q811 : (Jvm.Cond.castable "java/lang/RuntimeException" "java/lang/Throwable") ∈ lw_tbl := lw_at lw_m4 22 rfl
/-! java/lang/ClassCastException -/
set_option maxRecDepth 100000
def RJ3 : String := "java/lang/ClassCastException"
def TJ3 : u_T := fun k => match k with
  | 0 => ("java/lang/Throwable", "backtrace", "Ljava/lang/Object;", false)
  | 1 => ("java/lang/Throwable", "detailMessage", "Ljava/lang/String;", false)
  | 2 => ("java/lang/Throwable", "cause", "Ljava/lang/Throwable;", false)
  | 3 => ("java/lang/Throwable", "stackTrace", "[Ljava/lang/StackTraceElement;", false)
  | 4 => ("java/lang/Throwable", "depth", "I", false)
  | _ => ("java/lang/Throwable", "suppressedExceptions", "Ljava/util/List;", false)
def tyJ3 : Nat → FieldType := fun k => match k with
  | 0 => .object "java/lang/Object"
  | 1 => .object "java/lang/String"
  | 2 => .object "java/lang/Throwable"
  | 3 => .array (.object "java/lang/StackTraceElement")
  | 4 => .int
  | _ => .object "java/util/List"
abbrev wsJ30 : List Cond := u_ws RJ3 TJ3 6
theorem nmJ3 : ∀ a, a < 6 → ∀ b, b < 6 → a ≠ b → (TJ3 a).2.1 ≠ (TJ3 b).2.1 := by decide +kernel
theorem tyJ3_ok : ∀ k, k < 6 → parseFieldDescriptor (TJ3 k).2.2.1 = some (tyJ3 k) := by decide +kernel
abbrev cJ3_init : ByteArray := prog_11_method_2_code
def yJ3_init : MethodName := ⟨RJ3, "<init>", "(Ljava/lang/String;)V"⟩
def dkwJ3_init_0 : List UInt8 := [42, 43, 183, 0, 7, 177]
abbrev dktJ3_init_0 : List UInt8 := dkwJ3_init_0 ++ []
theorem dksJ3_init_0 : cJ3_init.data.toList.drop 0 = dktJ3_init_0 := by decide +kernel
theorem dJ3_init_0 : decode cJ3_init 0 = .ok (.aload_n 0, 1) := dk_42 (dk_at dksJ3_init_0 0 rfl rfl)
theorem dJ3_init_1 : decode cJ3_init 1 = .ok (.aload_n 1, 1) := dk_43 (dk_at dksJ3_init_0 1 rfl rfl)
theorem dJ3_init_2 : decode cJ3_init 2 = .ok (.invokespecial 7, 3) := dk_183 0 7 (dk_at dksJ3_init_0 2 rfl rfl)
theorem dJ3_init_5 : decode cJ3_init 5 = .ok (.return_, 1) := dk_177 (dk_at dksJ3_init_0 5 rfl rfl)
theorem q78 : (Jvm.Cond.initialized "java/lang/ClassCastException") ∈ lw_all := lw_g (lw_at lw_m1 9 rfl) rfl
theorem q366 : (Jvm.Cond.instantiable "java/lang/ClassCastException" (6 : Nat)) ∈ lw_all := lw_g (lw_at lw_m2 57 rfl) rfl
theorem q367 : (Jvm.Cond.instanceMethod ({ cls := "java/lang/ClassCastException", name := "<init>", desc := "(Ljava/lang/String;)V" } : Jvm.MethodName)) ∈ lw_all := lw_g (lw_at lw_m2 58 rfl) rfl
theorem q368 : (Jvm.Cond.code ({ cls := "java/lang/ClassCastException", name := "<init>", desc := "(Ljava/lang/String;)V" } : Jvm.MethodName) prog_11_method_2_code (2 : Nat) (Option.none : Option Jvm.ClassFile.FieldType)) ∈ lw_all := lw_g (lw_at lw_m2 59 rfl) rfl
theorem q369 : (Jvm.Cond.methodLink "java/lang/ClassCastException" (7 : Nat) ({ cls := "java/lang/RuntimeException", name := "<init>", desc := "(Ljava/lang/String;)V" } : Jvm.MethodName)) ∈ lw_all := lw_g (lw_at lw_m2 60 rfl) rfl
theorem q388 : (Jvm.Cond.selects "java/lang/ClassCastException" ({ cls := "java/lang/Throwable", name := "fillInStackTrace", desc := "()Ljava/lang/Throwable;" } : Jvm.MethodName) ({ cls := "java/lang/Throwable", name := "fillInStackTrace", desc := "()Ljava/lang/Throwable;" } : Jvm.MethodName)) ∈ lw_all := lw_g (lw_at lw_m2 79 rfl) rfl
theorem q415 : (Jvm.Cond.lays "java/lang/ClassCastException" "java/lang/Throwable" "backtrace" "Ljava/lang/Object;") ∈ lw_all := lw_g (lw_at lw_m2 106 rfl) rfl
theorem q417 : (Jvm.Cond.lays "java/lang/ClassCastException" "java/lang/Throwable" "detailMessage" "Ljava/lang/String;") ∈ lw_all := lw_g (lw_at lw_m2 108 rfl) rfl
theorem q419 : (Jvm.Cond.lays "java/lang/ClassCastException" "java/lang/Throwable" "cause" "Ljava/lang/Throwable;") ∈ lw_all := lw_g (lw_at lw_m2 110 rfl) rfl
theorem q421 : (Jvm.Cond.lays "java/lang/ClassCastException" "java/lang/Throwable" "stackTrace" "[Ljava/lang/StackTraceElement;") ∈ lw_all := lw_g (lw_at lw_m2 112 rfl) rfl
theorem q423 : (Jvm.Cond.lays "java/lang/ClassCastException" "java/lang/Throwable" "depth" "I") ∈ lw_all := lw_g (lw_at lw_m2 114 rfl) rfl
theorem q425 : (Jvm.Cond.lays "java/lang/ClassCastException" "java/lang/Throwable" "suppressedExceptions" "Ljava/util/List;") ∈ lw_all := lw_g (lw_at lw_m2 116 rfl) rfl
theorem q427 : (Jvm.Cond.superclass "java/lang/ClassCastException" "java/lang/RuntimeException") ∈ lw_all := lw_g (lw_at lw_m2 118 rfl) rfl
theorem q428 : (Jvm.Cond.castable "java/lang/ClassCastException" "java/lang/ClassCastException") ∈ lw_tbl := lw_at lw_m2 119 rfl
theorem q435 : (Jvm.Cond.selects "java/lang/ClassCastException" ({ cls := "java/lang/Throwable", name := "fillInStackTrace", desc := "(I)Ljava/lang/Throwable;" } : Jvm.MethodName) ({ cls := "java/lang/Throwable", name := "fillInStackTrace", desc := "(I)Ljava/lang/Throwable;" } : Jvm.MethodName)) ∈ lw_all := lw_g (lw_at lw_m2 126 rfl) rfl
theorem in_J3 : ∀ w ∈ wsJ30, w ∈ lw_all := lw_in wsJ30 [415, 417, 419, 421, 423, 425] (by decide +kernel) (by decide +kernel)
/-! java/lang/String -/
set_option maxRecDepth 100000
def RJ4 : String := "java/lang/String"
def TJ4 : u_T := fun k => match k with
  | 0 => ("java/lang/String", "value", "[B", true)
  | _ => ("java/lang/String", "coder", "B", true)
def tyJ4 : Nat → FieldType := fun k => match k with
  | 0 => .array .byte
  | _ => .byte
abbrev wsJ40 : List Cond := u_ws RJ4 TJ4 2
theorem nmJ4 : ∀ a, a < 2 → ∀ b, b < 2 → a ≠ b → (TJ4 a).2.1 ≠ (TJ4 b).2.1 := by decide +kernel
theorem tyJ4_ok : ∀ k, k < 2 → parseFieldDescriptor (TJ4 k).2.2.1 = some (tyJ4 k) := by decide +kernel
theorem q79 : (Jvm.Cond.initialized "java/lang/String") ∈ lw_all := lw_g (lw_at lw_m1 10 rfl) rfl
theorem q445 : (Jvm.Cond.instantiable "java/lang/String" (4 : Nat)) ∈ lw_all := lw_g (lw_at lw_m2 136 rfl) rfl
theorem q447 : (Jvm.Cond.laysFinal "java/lang/String" "java/lang/String" "value" "[B") ∈ lw_all := lw_g (lw_at lw_m2 138 rfl) rfl
theorem q448 : (Jvm.Cond.soleField "java/lang/String" "value") ∈ lw_all := lw_g (lw_at lw_m2 139 rfl) rfl
theorem q449 : (Jvm.Cond.laysFinal "java/lang/String" "java/lang/String" "coder" "B") ∈ lw_all := lw_g (lw_at lw_m2 140 rfl) rfl
theorem q450 : (Jvm.Cond.soleField "java/lang/String" "coder") ∈ lw_all := lw_g (lw_at lw_m2 141 rfl) rfl
theorem in_J4 : ∀ w ∈ wsJ40, w ∈ lw_all := lw_in wsJ40 [447, 449] (by decide +kernel) (by decide +kernel)
/-! java/lang/Math -/
set_option maxRecDepth 100000
def RJ5 : String := "java/lang/Math"
abbrev cJ5_abs : ByteArray := prog_15_method_61_code
def yJ5_abs : MethodName := ⟨RJ5, "abs", "(J)J"⟩
def dkwJ5_abs_0 : List UInt8 := [30, 9, 148, 156, 0, 8, 30, 117, 167, 0, 4, 30, 173]
abbrev dktJ5_abs_0 : List UInt8 := dkwJ5_abs_0 ++ []
theorem dksJ5_abs_0 : cJ5_abs.data.toList.drop 0 = dktJ5_abs_0 := by decide +kernel
theorem dJ5_abs_0 : decode cJ5_abs 0 = .ok (.lload_n 0, 1) := dk_30 (dk_at dksJ5_abs_0 0 rfl rfl)
theorem dJ5_abs_1 : decode cJ5_abs 1 = .ok (.lconst 0, 1) := dk_9 (dk_at dksJ5_abs_0 1 rfl rfl)
theorem dJ5_abs_2 : decode cJ5_abs 2 = .ok (.lcmp, 1) := dk_148 (dk_at dksJ5_abs_0 2 rfl rfl)
theorem dJ5_abs_3 : decode cJ5_abs 3 = .ok (.ifCond .ge 8, 3) := dk_156 0 8 (dk_at dksJ5_abs_0 3 rfl rfl)
theorem dJ5_abs_6 : decode cJ5_abs 6 = .ok (.lload_n 0, 1) := dk_30 (dk_at dksJ5_abs_0 6 rfl rfl)
theorem dJ5_abs_7 : decode cJ5_abs 7 = .ok (.lneg, 1) := dk_117 (dk_at dksJ5_abs_0 7 rfl rfl)
theorem dJ5_abs_8 : decode cJ5_abs 8 = .ok (.goto 4, 3) := dk_167 0 4 (dk_at dksJ5_abs_0 8 rfl rfl)
theorem dJ5_abs_11 : decode cJ5_abs 11 = .ok (.lload_n 0, 1) := dk_30 (dk_at dksJ5_abs_0 11 rfl rfl)
theorem dJ5_abs_12 : decode cJ5_abs 12 = .ok (.lreturn, 1) := dk_173 (dk_at dksJ5_abs_0 12 rfl rfl)
abbrev cJ5_max : ByteArray := prog_15_method_66_code
def yJ5_max : MethodName := ⟨RJ5, "max", "(JJ)J"⟩
def dkwJ5_max_0 : List UInt8 := [30, 32, 148, 155, 0, 7, 30, 167, 0, 4, 32, 173]
abbrev dktJ5_max_0 : List UInt8 := dkwJ5_max_0 ++ []
theorem dksJ5_max_0 : cJ5_max.data.toList.drop 0 = dktJ5_max_0 := by decide +kernel
theorem dJ5_max_0 : decode cJ5_max 0 = .ok (.lload_n 0, 1) := dk_30 (dk_at dksJ5_max_0 0 rfl rfl)
theorem dJ5_max_1 : decode cJ5_max 1 = .ok (.lload_n 2, 1) := dk_32 (dk_at dksJ5_max_0 1 rfl rfl)
theorem dJ5_max_2 : decode cJ5_max 2 = .ok (.lcmp, 1) := dk_148 (dk_at dksJ5_max_0 2 rfl rfl)
theorem dJ5_max_3 : decode cJ5_max 3 = .ok (.ifCond .lt 7, 3) := dk_155 0 7 (dk_at dksJ5_max_0 3 rfl rfl)
theorem dJ5_max_6 : decode cJ5_max 6 = .ok (.lload_n 0, 1) := dk_30 (dk_at dksJ5_max_0 6 rfl rfl)
theorem dJ5_max_7 : decode cJ5_max 7 = .ok (.goto 4, 3) := dk_167 0 4 (dk_at dksJ5_max_0 7 rfl rfl)
theorem dJ5_max_10 : decode cJ5_max 10 = .ok (.lload_n 2, 1) := dk_32 (dk_at dksJ5_max_0 10 rfl rfl)
theorem dJ5_max_11 : decode cJ5_max 11 = .ok (.lreturn, 1) := dk_173 (dk_at dksJ5_max_0 11 rfl rfl)
abbrev cJ5_min : ByteArray := prog_15_method_69_code
def yJ5_min : MethodName := ⟨RJ5, "min", "(II)I"⟩
def dkwJ5_min_0 : List UInt8 := [26, 27, 163, 0, 7, 26, 167, 0, 4, 27, 172]
abbrev dktJ5_min_0 : List UInt8 := dkwJ5_min_0 ++ []
theorem dksJ5_min_0 : cJ5_min.data.toList.drop 0 = dktJ5_min_0 := by decide +kernel
theorem dJ5_min_0 : decode cJ5_min 0 = .ok (.iload_n 0, 1) := dk_26 (dk_at dksJ5_min_0 0 rfl rfl)
theorem dJ5_min_1 : decode cJ5_min 1 = .ok (.iload_n 1, 1) := dk_27 (dk_at dksJ5_min_0 1 rfl rfl)
theorem dJ5_min_2 : decode cJ5_min 2 = .ok (.if_icmp .gt 7, 3) := dk_163 0 7 (dk_at dksJ5_min_0 2 rfl rfl)
theorem dJ5_min_5 : decode cJ5_min 5 = .ok (.iload_n 0, 1) := dk_26 (dk_at dksJ5_min_0 5 rfl rfl)
theorem dJ5_min_6 : decode cJ5_min 6 = .ok (.goto 4, 3) := dk_167 0 4 (dk_at dksJ5_min_0 6 rfl rfl)
theorem dJ5_min_9 : decode cJ5_min 9 = .ok (.iload_n 1, 1) := dk_27 (dk_at dksJ5_min_0 9 rfl rfl)
theorem dJ5_min_10 : decode cJ5_min 10 = .ok (.ireturn, 1) := dk_172 (dk_at dksJ5_min_0 10 rfl rfl)
theorem q81 : (Jvm.Cond.initialized "java/lang/Math") ∈ lw_all := lw_g (lw_at lw_m1 12 rfl) rfl
theorem q599 : (Jvm.Cond.static ({ cls := "java/lang/Math", name := "abs", desc := "(J)J" } : Jvm.MethodName)) ∈ lw_all := lw_g (lw_at lw_m3 50 rfl) rfl
theorem q600 : (Jvm.Cond.code ({ cls := "java/lang/Math", name := "abs", desc := "(J)J" } : Jvm.MethodName) prog_15_method_61_code (2 : Nat) (Option.some Jvm.ClassFile.FieldType.long)) ∈ lw_all := lw_g (lw_at lw_m3 51 rfl) rfl
theorem q732 : (Jvm.Cond.static ({ cls := "java/lang/Math", name := "max", desc := "(JJ)J" } : Jvm.MethodName)) ∈ lw_all := lw_g (lw_at lw_m3 183 rfl) rfl
theorem q733 : (Jvm.Cond.code ({ cls := "java/lang/Math", name := "max", desc := "(JJ)J" } : Jvm.MethodName) prog_15_method_66_code (4 : Nat) (Option.some Jvm.ClassFile.FieldType.long)) ∈ lw_all := lw_g (lw_at lw_m3 184 rfl) rfl
theorem q778 : (Jvm.Cond.static ({ cls := "java/lang/Math", name := "min", desc := "(II)I" } : Jvm.MethodName)) ∈ lw_all := lw_g (lw_at lw_m3 229 rfl) rfl
theorem q779 : (Jvm.Cond.code ({ cls := "java/lang/Math", name := "min", desc := "(II)I" } : Jvm.MethodName) prog_15_method_69_code (2 : Nat) (Option.some Jvm.ClassFile.FieldType.int)) ∈ lw_all := lw_g (lw_at lw_m3 230 rfl) rfl
/-! java/lang/Long -/
set_option maxRecDepth 100000
def RJ6 : String := "java/lang/Long"
abbrev cJ6_compare : ByteArray := prog_14_method_42_code
def yJ6_compare : MethodName := ⟨RJ6, "compare", "(JJ)I"⟩
def dkwJ6_compare_0 : List UInt8 := [30, 32, 148, 156, 0, 7, 2, 167, 0, 14, 30, 32, 148, 154, 0, 7, 3, 167, 0, 4, 4, 172]
abbrev dktJ6_compare_0 : List UInt8 := dkwJ6_compare_0 ++ []
theorem dksJ6_compare_0 : cJ6_compare.data.toList.drop 0 = dktJ6_compare_0 := by decide +kernel
theorem dJ6_compare_0 : decode cJ6_compare 0 = .ok (.lload_n 0, 1) := dk_30 (dk_at dksJ6_compare_0 0 rfl rfl)
theorem dJ6_compare_1 : decode cJ6_compare 1 = .ok (.lload_n 2, 1) := dk_32 (dk_at dksJ6_compare_0 1 rfl rfl)
theorem dJ6_compare_2 : decode cJ6_compare 2 = .ok (.lcmp, 1) := dk_148 (dk_at dksJ6_compare_0 2 rfl rfl)
theorem dJ6_compare_3 : decode cJ6_compare 3 = .ok (.ifCond .ge 7, 3) := dk_156 0 7 (dk_at dksJ6_compare_0 3 rfl rfl)
theorem dJ6_compare_6 : decode cJ6_compare 6 = .ok (.iconst (-1), 1) := dk_2 (dk_at dksJ6_compare_0 6 rfl rfl)
theorem dJ6_compare_7 : decode cJ6_compare 7 = .ok (.goto 14, 3) := dk_167 0 14 (dk_at dksJ6_compare_0 7 rfl rfl)
theorem dJ6_compare_10 : decode cJ6_compare 10 = .ok (.lload_n 0, 1) := dk_30 (dk_at dksJ6_compare_0 10 rfl rfl)
theorem dJ6_compare_11 : decode cJ6_compare 11 = .ok (.lload_n 2, 1) := dk_32 (dk_at dksJ6_compare_0 11 rfl rfl)
theorem dJ6_compare_12 : decode cJ6_compare 12 = .ok (.lcmp, 1) := dk_148 (dk_at dksJ6_compare_0 12 rfl rfl)
theorem dJ6_compare_13 : decode cJ6_compare 13 = .ok (.ifCond .ne 7, 3) := dk_154 0 7 (dk_at dksJ6_compare_0 13 rfl rfl)
theorem dJ6_compare_16 : decode cJ6_compare 16 = .ok (.iconst 0, 1) := dk_3 (dk_at dksJ6_compare_0 16 rfl rfl)
theorem dJ6_compare_17 : decode cJ6_compare 17 = .ok (.goto 4, 3) := dk_167 0 4 (dk_at dksJ6_compare_0 17 rfl rfl)
theorem dJ6_compare_20 : decode cJ6_compare 20 = .ok (.iconst 1, 1) := dk_4 (dk_at dksJ6_compare_0 20 rfl rfl)
theorem dJ6_compare_21 : decode cJ6_compare 21 = .ok (.ireturn, 1) := dk_172 (dk_at dksJ6_compare_0 21 rfl rfl)
theorem q82 : (Jvm.Cond.initialized "java/lang/Long") ∈ lw_all := lw_g (lw_at lw_m1 13 rfl) rfl
theorem q672 : (Jvm.Cond.static ({ cls := "java/lang/Long", name := "compare", desc := "(JJ)I" } : Jvm.MethodName)) ∈ lw_all := lw_g (lw_at lw_m3 123 rfl) rfl
theorem q673 : (Jvm.Cond.code ({ cls := "java/lang/Long", name := "compare", desc := "(JJ)I" } : Jvm.MethodName) prog_14_method_42_code (4 : Nat) (Option.some Jvm.ClassFile.FieldType.int)) ∈ lw_all := lw_g (lw_at lw_m3 124 rfl) rfl
/-! java/lang/ArithmeticException -/
set_option maxRecDepth 100000
def RJ7 : String := "java/lang/ArithmeticException"
def TJ7 : u_T := fun k => match k with
  | 0 => ("java/lang/Throwable", "backtrace", "Ljava/lang/Object;", false)
  | 1 => ("java/lang/Throwable", "detailMessage", "Ljava/lang/String;", false)
  | 2 => ("java/lang/Throwable", "cause", "Ljava/lang/Throwable;", false)
  | 3 => ("java/lang/Throwable", "stackTrace", "[Ljava/lang/StackTraceElement;", false)
  | 4 => ("java/lang/Throwable", "depth", "I", false)
  | _ => ("java/lang/Throwable", "suppressedExceptions", "Ljava/util/List;", false)
def tyJ7 : Nat → FieldType := fun k => match k with
  | 0 => .object "java/lang/Object"
  | 1 => .object "java/lang/String"
  | 2 => .object "java/lang/Throwable"
  | 3 => .array (.object "java/lang/StackTraceElement")
  | 4 => .int
  | _ => .object "java/util/List"
abbrev wsJ70 : List Cond := u_ws RJ7 TJ7 6
theorem nmJ7 : ∀ a, a < 6 → ∀ b, b < 6 → a ≠ b → (TJ7 a).2.1 ≠ (TJ7 b).2.1 := by decide +kernel
theorem tyJ7_ok : ∀ k, k < 6 → parseFieldDescriptor (TJ7 k).2.2.1 = some (tyJ7 k) := by decide +kernel
abbrev cJ7_init : ByteArray := prog_9_method_2_code
def yJ7_init : MethodName := ⟨RJ7, "<init>", "(Ljava/lang/String;)V"⟩
def dkwJ7_init_0 : List UInt8 := [42, 43, 183, 0, 7, 177]
abbrev dktJ7_init_0 : List UInt8 := dkwJ7_init_0 ++ []
theorem dksJ7_init_0 : cJ7_init.data.toList.drop 0 = dktJ7_init_0 := by decide +kernel
theorem dJ7_init_0 : decode cJ7_init 0 = .ok (.aload_n 0, 1) := dk_42 (dk_at dksJ7_init_0 0 rfl rfl)
theorem dJ7_init_1 : decode cJ7_init 1 = .ok (.aload_n 1, 1) := dk_43 (dk_at dksJ7_init_0 1 rfl rfl)
theorem dJ7_init_2 : decode cJ7_init 2 = .ok (.invokespecial 7, 3) := dk_183 0 7 (dk_at dksJ7_init_0 2 rfl rfl)
theorem dJ7_init_5 : decode cJ7_init 5 = .ok (.return_, 1) := dk_177 (dk_at dksJ7_init_0 5 rfl rfl)
theorem q83 : (Jvm.Cond.initialized "java/lang/ArithmeticException") ∈ lw_all := lw_g (lw_at lw_m1 14 rfl) rfl
theorem q386 : (Jvm.Cond.selects "java/lang/ArithmeticException" ({ cls := "java/lang/Throwable", name := "fillInStackTrace", desc := "()Ljava/lang/Throwable;" } : Jvm.MethodName) ({ cls := "java/lang/Throwable", name := "fillInStackTrace", desc := "()Ljava/lang/Throwable;" } : Jvm.MethodName)) ∈ lw_all := lw_g (lw_at lw_m2 77 rfl) rfl
theorem q739 : (Jvm.Cond.instantiable "java/lang/ArithmeticException" (6 : Nat)) ∈ lw_all := lw_g (lw_at lw_m3 190 rfl) rfl
theorem q740 : (Jvm.Cond.instanceMethod ({ cls := "java/lang/ArithmeticException", name := "<init>", desc := "(Ljava/lang/String;)V" } : Jvm.MethodName)) ∈ lw_all := lw_g (lw_at lw_m3 191 rfl) rfl
theorem q741 : (Jvm.Cond.code ({ cls := "java/lang/ArithmeticException", name := "<init>", desc := "(Ljava/lang/String;)V" } : Jvm.MethodName) prog_9_method_2_code (2 : Nat) (Option.none : Option Jvm.ClassFile.FieldType)) ∈ lw_all := lw_g (lw_at lw_m3 192 rfl) rfl
theorem q742 : (Jvm.Cond.methodLink "java/lang/ArithmeticException" (7 : Nat) ({ cls := "java/lang/RuntimeException", name := "<init>", desc := "(Ljava/lang/String;)V" } : Jvm.MethodName)) ∈ lw_all := lw_g (lw_at lw_m3 193 rfl) rfl
theorem q743 : (Jvm.Cond.lays "java/lang/ArithmeticException" "java/lang/Throwable" "backtrace" "Ljava/lang/Object;") ∈ lw_all := lw_g (lw_at lw_m3 194 rfl) rfl
theorem q744 : (Jvm.Cond.lays "java/lang/ArithmeticException" "java/lang/Throwable" "detailMessage" "Ljava/lang/String;") ∈ lw_all := lw_g (lw_at lw_m3 195 rfl) rfl
theorem q745 : (Jvm.Cond.lays "java/lang/ArithmeticException" "java/lang/Throwable" "cause" "Ljava/lang/Throwable;") ∈ lw_all := lw_g (lw_at lw_m3 196 rfl) rfl
theorem q746 : (Jvm.Cond.lays "java/lang/ArithmeticException" "java/lang/Throwable" "stackTrace" "[Ljava/lang/StackTraceElement;") ∈ lw_all := lw_g (lw_at lw_m3 197 rfl) rfl
theorem q747 : (Jvm.Cond.lays "java/lang/ArithmeticException" "java/lang/Throwable" "depth" "I") ∈ lw_all := lw_g (lw_at lw_m3 198 rfl) rfl
theorem q748 : (Jvm.Cond.lays "java/lang/ArithmeticException" "java/lang/Throwable" "suppressedExceptions" "Ljava/util/List;") ∈ lw_all := lw_g (lw_at lw_m3 199 rfl) rfl
theorem q749 : (Jvm.Cond.superclass "java/lang/ArithmeticException" "java/lang/RuntimeException") ∈ lw_all := lw_g (lw_at lw_m3 200 rfl) rfl
theorem q750 : (Jvm.Cond.castable "java/lang/ArithmeticException" "java/lang/ArithmeticException") ∈ lw_tbl := lw_at lw_m3 201 rfl
theorem q751 : (Jvm.Cond.selects "java/lang/ArithmeticException" ({ cls := "java/lang/Throwable", name := "fillInStackTrace", desc := "(I)Ljava/lang/Throwable;" } : Jvm.MethodName) ({ cls := "java/lang/Throwable", name := "fillInStackTrace", desc := "(I)Ljava/lang/Throwable;" } : Jvm.MethodName)) ∈ lw_all := lw_g (lw_at lw_m3 202 rfl) rfl
theorem in_J7 : ∀ w ∈ wsJ70, w ∈ lw_all := lw_in wsJ70 [743, 744, 745, 746, 747, 748] (by decide +kernel) (by decide +kernel)
/-! java/lang/NegativeArraySizeException -/
set_option maxRecDepth 100000
def RJ8 : String := "java/lang/NegativeArraySizeException"
def TJ8 : u_T := fun k => match k with
  | 0 => ("java/lang/Throwable", "backtrace", "Ljava/lang/Object;", false)
  | 1 => ("java/lang/Throwable", "detailMessage", "Ljava/lang/String;", false)
  | 2 => ("java/lang/Throwable", "cause", "Ljava/lang/Throwable;", false)
  | 3 => ("java/lang/Throwable", "stackTrace", "[Ljava/lang/StackTraceElement;", false)
  | 4 => ("java/lang/Throwable", "depth", "I", false)
  | _ => ("java/lang/Throwable", "suppressedExceptions", "Ljava/util/List;", false)
def tyJ8 : Nat → FieldType := fun k => match k with
  | 0 => .object "java/lang/Object"
  | 1 => .object "java/lang/String"
  | 2 => .object "java/lang/Throwable"
  | 3 => .array (.object "java/lang/StackTraceElement")
  | 4 => .int
  | _ => .object "java/util/List"
abbrev wsJ80 : List Cond := u_ws RJ8 TJ8 6
theorem nmJ8 : ∀ a, a < 6 → ∀ b, b < 6 → a ≠ b → (TJ8 a).2.1 ≠ (TJ8 b).2.1 := by decide +kernel
theorem tyJ8_ok : ∀ k, k < 6 → parseFieldDescriptor (TJ8 k).2.2.1 = some (tyJ8 k) := by decide +kernel
abbrev cJ8_init : ByteArray := prog_16_method_2_code
def yJ8_init : MethodName := ⟨RJ8, "<init>", "(Ljava/lang/String;)V"⟩
def dkwJ8_init_0 : List UInt8 := [42, 43, 183, 0, 7, 177]
abbrev dktJ8_init_0 : List UInt8 := dkwJ8_init_0 ++ []
theorem dksJ8_init_0 : cJ8_init.data.toList.drop 0 = dktJ8_init_0 := by decide +kernel
theorem dJ8_init_0 : decode cJ8_init 0 = .ok (.aload_n 0, 1) := dk_42 (dk_at dksJ8_init_0 0 rfl rfl)
theorem dJ8_init_1 : decode cJ8_init 1 = .ok (.aload_n 1, 1) := dk_43 (dk_at dksJ8_init_0 1 rfl rfl)
theorem dJ8_init_2 : decode cJ8_init 2 = .ok (.invokespecial 7, 3) := dk_183 0 7 (dk_at dksJ8_init_0 2 rfl rfl)
theorem dJ8_init_5 : decode cJ8_init 5 = .ok (.return_, 1) := dk_177 (dk_at dksJ8_init_0 5 rfl rfl)
theorem q84 : (Jvm.Cond.initialized "java/lang/NegativeArraySizeException") ∈ lw_all := lw_g (lw_at lw_m1 15 rfl) rfl
theorem q389 : (Jvm.Cond.selects "java/lang/NegativeArraySizeException" ({ cls := "java/lang/Throwable", name := "fillInStackTrace", desc := "()Ljava/lang/Throwable;" } : Jvm.MethodName) ({ cls := "java/lang/Throwable", name := "fillInStackTrace", desc := "()Ljava/lang/Throwable;" } : Jvm.MethodName)) ∈ lw_all := lw_g (lw_at lw_m2 80 rfl) rfl
theorem q757 : (Jvm.Cond.instantiable "java/lang/NegativeArraySizeException" (6 : Nat)) ∈ lw_all := lw_g (lw_at lw_m3 208 rfl) rfl
theorem q758 : (Jvm.Cond.instanceMethod ({ cls := "java/lang/NegativeArraySizeException", name := "<init>", desc := "(Ljava/lang/String;)V" } : Jvm.MethodName)) ∈ lw_all := lw_g (lw_at lw_m3 209 rfl) rfl
theorem q759 : (Jvm.Cond.code ({ cls := "java/lang/NegativeArraySizeException", name := "<init>", desc := "(Ljava/lang/String;)V" } : Jvm.MethodName) prog_16_method_2_code (2 : Nat) (Option.none : Option Jvm.ClassFile.FieldType)) ∈ lw_all := lw_g (lw_at lw_m3 210 rfl) rfl
theorem q760 : (Jvm.Cond.methodLink "java/lang/NegativeArraySizeException" (7 : Nat) ({ cls := "java/lang/RuntimeException", name := "<init>", desc := "(Ljava/lang/String;)V" } : Jvm.MethodName)) ∈ lw_all := lw_g (lw_at lw_m3 211 rfl) rfl
theorem q761 : (Jvm.Cond.lays "java/lang/NegativeArraySizeException" "java/lang/Throwable" "backtrace" "Ljava/lang/Object;") ∈ lw_all := lw_g (lw_at lw_m3 212 rfl) rfl
theorem q762 : (Jvm.Cond.lays "java/lang/NegativeArraySizeException" "java/lang/Throwable" "detailMessage" "Ljava/lang/String;") ∈ lw_all := lw_g (lw_at lw_m3 213 rfl) rfl
theorem q763 : (Jvm.Cond.lays "java/lang/NegativeArraySizeException" "java/lang/Throwable" "cause" "Ljava/lang/Throwable;") ∈ lw_all := lw_g (lw_at lw_m3 214 rfl) rfl
theorem q764 : (Jvm.Cond.lays "java/lang/NegativeArraySizeException" "java/lang/Throwable" "stackTrace" "[Ljava/lang/StackTraceElement;") ∈ lw_all := lw_g (lw_at lw_m3 215 rfl) rfl
theorem q765 : (Jvm.Cond.lays "java/lang/NegativeArraySizeException" "java/lang/Throwable" "depth" "I") ∈ lw_all := lw_g (lw_at lw_m3 216 rfl) rfl
theorem q766 : (Jvm.Cond.lays "java/lang/NegativeArraySizeException" "java/lang/Throwable" "suppressedExceptions" "Ljava/util/List;") ∈ lw_all := lw_g (lw_at lw_m3 217 rfl) rfl
theorem q767 : (Jvm.Cond.superclass "java/lang/NegativeArraySizeException" "java/lang/RuntimeException") ∈ lw_all := lw_g (lw_at lw_m3 218 rfl) rfl
theorem q768 : (Jvm.Cond.castable "java/lang/NegativeArraySizeException" "java/lang/NegativeArraySizeException") ∈ lw_tbl := lw_at lw_m3 219 rfl
theorem q769 : (Jvm.Cond.selects "java/lang/NegativeArraySizeException" ({ cls := "java/lang/Throwable", name := "fillInStackTrace", desc := "(I)Ljava/lang/Throwable;" } : Jvm.MethodName) ({ cls := "java/lang/Throwable", name := "fillInStackTrace", desc := "(I)Ljava/lang/Throwable;" } : Jvm.MethodName)) ∈ lw_all := lw_g (lw_at lw_m3 220 rfl) rfl
theorem in_J8 : ∀ w ∈ wsJ80, w ∈ lw_all := lw_in wsJ80 [761, 762, 763, 764, 765, 766] (by decide +kernel) (by decide +kernel)
/-! java/lang/NullPointerException -/
set_option maxRecDepth 100000
def RJ9 : String := "java/lang/NullPointerException"
def TJ9 : u_T := fun k => match k with
  | 0 => ("java/lang/Throwable", "backtrace", "Ljava/lang/Object;", false)
  | 1 => ("java/lang/Throwable", "detailMessage", "Ljava/lang/String;", false)
  | 2 => ("java/lang/Throwable", "cause", "Ljava/lang/Throwable;", false)
  | 3 => ("java/lang/Throwable", "stackTrace", "[Ljava/lang/StackTraceElement;", false)
  | 4 => ("java/lang/Throwable", "depth", "I", false)
  | 5 => ("java/lang/Throwable", "suppressedExceptions", "Ljava/util/List;", false)
  | 6 => ("java/lang/NullPointerException", "extendedMessageState", "I", false)
  | _ => ("java/lang/NullPointerException", "extendedMessage", "Ljava/lang/String;", false)
def tyJ9 : Nat → FieldType := fun k => match k with
  | 0 => .object "java/lang/Object"
  | 1 => .object "java/lang/String"
  | 2 => .object "java/lang/Throwable"
  | 3 => .array (.object "java/lang/StackTraceElement")
  | 4 => .int
  | 5 => .object "java/util/List"
  | 6 => .int
  | _ => .object "java/lang/String"
abbrev wsJ90 : List Cond := u_ws RJ9 TJ9 8
theorem nmJ9 : ∀ a, a < 8 → ∀ b, b < 8 → a ≠ b → (TJ9 a).2.1 ≠ (TJ9 b).2.1 := by decide +kernel
theorem tyJ9_ok : ∀ k, k < 8 → parseFieldDescriptor (TJ9 k).2.2.1 = some (tyJ9 k) := by decide +kernel
abbrev cJ9_init : ByteArray := prog_17_method_1_code
def yJ9_init : MethodName := ⟨RJ9, "<init>", "()V"⟩
theorem dJ9_init_0 : decode cJ9_init 0 = .ok (.aload_n 0, 1) := by decide +kernel
theorem dJ9_init_1 : decode cJ9_init 1 = .ok (.invokespecial 1, 3) := by decide +kernel
theorem dJ9_init_4 : decode cJ9_init 4 = .ok (.return_, 1) := by decide +kernel
theorem q86 : (Jvm.Cond.initialized "java/lang/NullPointerException") ∈ lw_all := lw_g (lw_at lw_m1 17 rfl) rfl
theorem q390 : (Jvm.Cond.selects "java/lang/NullPointerException" ({ cls := "java/lang/Throwable", name := "fillInStackTrace", desc := "()Ljava/lang/Throwable;" } : Jvm.MethodName) ({ cls := "java/lang/NullPointerException", name := "fillInStackTrace", desc := "()Ljava/lang/Throwable;" } : Jvm.MethodName)) ∈ lw_all := lw_g (lw_at lw_m2 81 rfl) rfl
theorem q391 : (Jvm.Cond.instanceMethod ({ cls := "java/lang/NullPointerException", name := "fillInStackTrace", desc := "()Ljava/lang/Throwable;" } : Jvm.MethodName)) ∈ lw_all := lw_g (lw_at lw_m2 82 rfl) rfl
theorem q392 : (Jvm.Cond.codeSync ({ cls := "java/lang/NullPointerException", name := "fillInStackTrace", desc := "()Ljava/lang/Throwable;" } : Jvm.MethodName) prog_17_method_3_code (1 : Nat) (Option.some (Jvm.ClassFile.FieldType.object "java/lang/Throwable"))) ∈ lw_all := lw_g (lw_at lw_m2 83 rfl) rfl
theorem q393 : (Jvm.Cond.methodLink "java/lang/NullPointerException" (16 : Nat) ({ cls := "java/lang/NullPointerException", name := "getExtendedNPEMessage", desc := "()Ljava/lang/String;" } : Jvm.MethodName)) ∈ lw_all := lw_g (lw_at lw_m2 84 rfl) rfl
theorem q394 : (Jvm.Cond.privateMethod ({ cls := "java/lang/NullPointerException", name := "getExtendedNPEMessage", desc := "()Ljava/lang/String;" } : Jvm.MethodName)) ∈ lw_tbl := lw_at lw_m2 85 rfl
theorem q395 : (Jvm.Cond.instanceMethod ({ cls := "java/lang/NullPointerException", name := "getExtendedNPEMessage", desc := "()Ljava/lang/String;" } : Jvm.MethodName)) ∈ lw_all := lw_g (lw_at lw_m2 86 rfl) rfl
theorem q396 : (Jvm.Cond.instantiable "java/lang/NullPointerException" (8 : Nat)) ∈ lw_all := lw_g (lw_at lw_m2 87 rfl) rfl
theorem q397 : (Jvm.Cond.native ({ cls := "java/lang/NullPointerException", name := "getExtendedNPEMessage", desc := "()Ljava/lang/String;" } : Jvm.MethodName)) ∈ lw_all := lw_g (lw_at lw_m2 88 rfl) rfl
theorem q398 : (Jvm.Cond.methodLink "java/lang/NullPointerException" (24 : Nat) ({ cls := "java/lang/RuntimeException", name := "fillInStackTrace", desc := "()Ljava/lang/Throwable;" } : Jvm.MethodName)) ∈ lw_all := lw_g (lw_at lw_m2 89 rfl) rfl
theorem q401 : (Jvm.Cond.superclass "java/lang/NullPointerException" "java/lang/RuntimeException") ∈ lw_all := lw_g (lw_at lw_m2 92 rfl) rfl
theorem q788 : (Jvm.Cond.instanceMethod ({ cls := "java/lang/NullPointerException", name := "<init>", desc := "()V" } : Jvm.MethodName)) ∈ lw_all := lw_g (lw_at lw_m3 239 rfl) rfl
theorem q789 : (Jvm.Cond.code ({ cls := "java/lang/NullPointerException", name := "<init>", desc := "()V" } : Jvm.MethodName) prog_17_method_1_code (1 : Nat) (Option.none : Option Jvm.ClassFile.FieldType)) ∈ lw_all := lw_g (lw_at lw_m4 0 rfl) rfl
theorem q790 : (Jvm.Cond.methodLink "java/lang/NullPointerException" (1 : Nat) ({ cls := "java/lang/RuntimeException", name := "<init>", desc := "()V" } : Jvm.MethodName)) ∈ lw_all := lw_g (lw_at lw_m4 1 rfl) rfl
theorem q797 : (Jvm.Cond.fieldLink "java/lang/NullPointerException" (10 : Nat) "java/lang/NullPointerException" "extendedMessageState" "I") ∈ lw_all := lw_g (lw_at lw_m4 8 rfl) rfl
theorem q798 : (Jvm.Cond.fieldLink "java/lang/NullPointerException" (20 : Nat) "java/lang/NullPointerException" "extendedMessage" "Ljava/lang/String;") ∈ lw_all := lw_g (lw_at lw_m4 9 rfl) rfl
theorem q799 : (Jvm.Cond.lays "java/lang/NullPointerException" "java/lang/NullPointerException" "extendedMessageState" "I") ∈ lw_all := lw_g (lw_at lw_m4 10 rfl) rfl
theorem q800 : (Jvm.Cond.soleField "java/lang/NullPointerException" "extendedMessageState") ∈ lw_all := lw_g (lw_at lw_m4 11 rfl) rfl
theorem q801 : (Jvm.Cond.lays "java/lang/NullPointerException" "java/lang/NullPointerException" "extendedMessage" "Ljava/lang/String;") ∈ lw_all := lw_g (lw_at lw_m4 12 rfl) rfl
theorem q802 : (Jvm.Cond.soleField "java/lang/NullPointerException" "extendedMessage") ∈ lw_all := lw_g (lw_at lw_m4 13 rfl) rfl
theorem q803 : (Jvm.Cond.lays "java/lang/NullPointerException" "java/lang/Throwable" "backtrace" "Ljava/lang/Object;") ∈ lw_all := lw_g (lw_at lw_m4 14 rfl) rfl
theorem q804 : (Jvm.Cond.lays "java/lang/NullPointerException" "java/lang/Throwable" "detailMessage" "Ljava/lang/String;") ∈ lw_all := lw_g (lw_at lw_m4 15 rfl) rfl
theorem q805 : (Jvm.Cond.lays "java/lang/NullPointerException" "java/lang/Throwable" "cause" "Ljava/lang/Throwable;") ∈ lw_all := lw_g (lw_at lw_m4 16 rfl) rfl
theorem q806 : (Jvm.Cond.lays "java/lang/NullPointerException" "java/lang/Throwable" "stackTrace" "[Ljava/lang/StackTraceElement;") ∈ lw_all := lw_g (lw_at lw_m4 17 rfl) rfl
theorem q807 : (Jvm.Cond.lays "java/lang/NullPointerException" "java/lang/Throwable" "depth" "I") ∈ lw_all := lw_g (lw_at lw_m4 18 rfl) rfl
theorem q808 : (Jvm.Cond.lays "java/lang/NullPointerException" "java/lang/Throwable" "suppressedExceptions" "Ljava/util/List;") ∈ lw_all := lw_g (lw_at lw_m4 19 rfl) rfl
theorem q809 : (Jvm.Cond.castable "java/lang/NullPointerException" "java/lang/NullPointerException") ∈ lw_tbl := lw_at lw_m4 20 rfl
theorem q810 : (Jvm.Cond.selects "java/lang/NullPointerException" ({ cls := "java/lang/Throwable", name := "fillInStackTrace", desc := "(I)Ljava/lang/Throwable;" } : Jvm.MethodName) ({ cls := "java/lang/Throwable", name := "fillInStackTrace", desc := "(I)Ljava/lang/Throwable;" } : Jvm.MethodName)) ∈ lw_all := lw_g (lw_at lw_m4 21 rfl) rfl
theorem in_J9 : ∀ w ∈ wsJ90, w ∈ lw_all := lw_in wsJ90 [803, 804, 805, 806, 807, 808, 799, 801] (by decide +kernel) (by decide +kernel)
/-! java/lang/IndexOutOfBoundsException -/
set_option maxRecDepth 100000
def RJ10 : String := "java/lang/IndexOutOfBoundsException"
abbrev cJ10_init : ByteArray := prog_13_method_2_code
def yJ10_init : MethodName := ⟨RJ10, "<init>", "(Ljava/lang/String;)V"⟩
def dkwJ10_init_0 : List UInt8 := [42, 43, 183, 0, 7, 177]
abbrev dktJ10_init_0 : List UInt8 := dkwJ10_init_0 ++ []
theorem dksJ10_init_0 : cJ10_init.data.toList.drop 0 = dktJ10_init_0 := by decide +kernel
theorem dJ10_init_0 : decode cJ10_init 0 = .ok (.aload_n 0, 1) := dk_42 (dk_at dksJ10_init_0 0 rfl rfl)
theorem dJ10_init_1 : decode cJ10_init 1 = .ok (.aload_n 1, 1) := dk_43 (dk_at dksJ10_init_0 1 rfl rfl)
theorem dJ10_init_2 : decode cJ10_init 2 = .ok (.invokespecial 7, 3) := dk_183 0 7 (dk_at dksJ10_init_0 2 rfl rfl)
theorem dJ10_init_5 : decode cJ10_init 5 = .ok (.return_, 1) := dk_177 (dk_at dksJ10_init_0 5 rfl rfl)
theorem q87 : (Jvm.Cond.initialized "java/lang/IndexOutOfBoundsException") ∈ lw_all := lw_g (lw_at lw_m1 18 rfl) rfl
theorem q817 : (Jvm.Cond.instanceMethod ({ cls := "java/lang/IndexOutOfBoundsException", name := "<init>", desc := "(Ljava/lang/String;)V" } : Jvm.MethodName)) ∈ lw_all := lw_g (lw_at lw_m4 28 rfl) rfl
theorem q818 : (Jvm.Cond.code ({ cls := "java/lang/IndexOutOfBoundsException", name := "<init>", desc := "(Ljava/lang/String;)V" } : Jvm.MethodName) prog_13_method_2_code (2 : Nat) (Option.none : Option Jvm.ClassFile.FieldType)) ∈ lw_all := lw_g (lw_at lw_m4 29 rfl) rfl
theorem q819 : (Jvm.Cond.methodLink "java/lang/IndexOutOfBoundsException" (7 : Nat) ({ cls := "java/lang/RuntimeException", name := "<init>", desc := "(Ljava/lang/String;)V" } : Jvm.MethodName)) ∈ lw_all := lw_g (lw_at lw_m4 30 rfl) rfl
theorem q828 : (Jvm.Cond.declares ({ cls := "java/lang/IndexOutOfBoundsException", name := "<init>", desc := "()V" } : Jvm.MethodName)) ∈ lw_tbl := lw_at lw_m4 39 rfl
theorem q829 : (Jvm.Cond.declares ({ cls := "java/lang/IndexOutOfBoundsException", name := "<init>", desc := "(Ljava/lang/String;)V" } : Jvm.MethodName)) ∈ lw_tbl := lw_at lw_m4 40 rfl
/-! java/lang/ArrayIndexOutOfBoundsException -/
set_option maxRecDepth 100000
def RJ11 : String := "java/lang/ArrayIndexOutOfBoundsException"
def TJ11 : u_T := fun k => match k with
  | 0 => ("java/lang/Throwable", "backtrace", "Ljava/lang/Object;", false)
  | 1 => ("java/lang/Throwable", "detailMessage", "Ljava/lang/String;", false)
  | 2 => ("java/lang/Throwable", "cause", "Ljava/lang/Throwable;", false)
  | 3 => ("java/lang/Throwable", "stackTrace", "[Ljava/lang/StackTraceElement;", false)
  | 4 => ("java/lang/Throwable", "depth", "I", false)
  | _ => ("java/lang/Throwable", "suppressedExceptions", "Ljava/util/List;", false)
def tyJ11 : Nat → FieldType := fun k => match k with
  | 0 => .object "java/lang/Object"
  | 1 => .object "java/lang/String"
  | 2 => .object "java/lang/Throwable"
  | 3 => .array (.object "java/lang/StackTraceElement")
  | 4 => .int
  | _ => .object "java/util/List"
abbrev wsJ110 : List Cond := u_ws RJ11 TJ11 6
theorem nmJ11 : ∀ a, a < 6 → ∀ b, b < 6 → a ≠ b → (TJ11 a).2.1 ≠ (TJ11 b).2.1 := by decide +kernel
theorem tyJ11_ok : ∀ k, k < 6 → parseFieldDescriptor (TJ11 k).2.2.1 = some (tyJ11 k) := by decide +kernel
abbrev cJ11_init : ByteArray := prog_10_method_2_code
def yJ11_init : MethodName := ⟨RJ11, "<init>", "(Ljava/lang/String;)V"⟩
def dkwJ11_init_0 : List UInt8 := [42, 43, 183, 0, 7, 177]
abbrev dktJ11_init_0 : List UInt8 := dkwJ11_init_0 ++ []
theorem dksJ11_init_0 : cJ11_init.data.toList.drop 0 = dktJ11_init_0 := by decide +kernel
theorem dJ11_init_0 : decode cJ11_init 0 = .ok (.aload_n 0, 1) := dk_42 (dk_at dksJ11_init_0 0 rfl rfl)
theorem dJ11_init_1 : decode cJ11_init 1 = .ok (.aload_n 1, 1) := dk_43 (dk_at dksJ11_init_0 1 rfl rfl)
theorem dJ11_init_2 : decode cJ11_init 2 = .ok (.invokespecial 7, 3) := dk_183 0 7 (dk_at dksJ11_init_0 2 rfl rfl)
theorem dJ11_init_5 : decode cJ11_init 5 = .ok (.return_, 1) := dk_177 (dk_at dksJ11_init_0 5 rfl rfl)
theorem q88 : (Jvm.Cond.initialized "java/lang/ArrayIndexOutOfBoundsException") ∈ lw_all := lw_g (lw_at lw_m1 19 rfl) rfl
theorem q387 : (Jvm.Cond.selects "java/lang/ArrayIndexOutOfBoundsException" ({ cls := "java/lang/Throwable", name := "fillInStackTrace", desc := "()Ljava/lang/Throwable;" } : Jvm.MethodName) ({ cls := "java/lang/Throwable", name := "fillInStackTrace", desc := "()Ljava/lang/Throwable;" } : Jvm.MethodName)) ∈ lw_all := lw_g (lw_at lw_m2 78 rfl) rfl
theorem q813 : (Jvm.Cond.instantiable "java/lang/ArrayIndexOutOfBoundsException" (6 : Nat)) ∈ lw_all := lw_g (lw_at lw_m4 24 rfl) rfl
theorem q814 : (Jvm.Cond.instanceMethod ({ cls := "java/lang/ArrayIndexOutOfBoundsException", name := "<init>", desc := "(Ljava/lang/String;)V" } : Jvm.MethodName)) ∈ lw_all := lw_g (lw_at lw_m4 25 rfl) rfl
theorem q815 : (Jvm.Cond.code ({ cls := "java/lang/ArrayIndexOutOfBoundsException", name := "<init>", desc := "(Ljava/lang/String;)V" } : Jvm.MethodName) prog_10_method_2_code (2 : Nat) (Option.none : Option Jvm.ClassFile.FieldType)) ∈ lw_all := lw_g (lw_at lw_m4 26 rfl) rfl
theorem q816 : (Jvm.Cond.methodLink "java/lang/ArrayIndexOutOfBoundsException" (7 : Nat) ({ cls := "java/lang/IndexOutOfBoundsException", name := "<init>", desc := "(Ljava/lang/String;)V" } : Jvm.MethodName)) ∈ lw_all := lw_g (lw_at lw_m4 27 rfl) rfl
theorem q820 : (Jvm.Cond.lays "java/lang/ArrayIndexOutOfBoundsException" "java/lang/Throwable" "backtrace" "Ljava/lang/Object;") ∈ lw_all := lw_g (lw_at lw_m4 31 rfl) rfl
theorem q821 : (Jvm.Cond.lays "java/lang/ArrayIndexOutOfBoundsException" "java/lang/Throwable" "detailMessage" "Ljava/lang/String;") ∈ lw_all := lw_g (lw_at lw_m4 32 rfl) rfl
theorem q822 : (Jvm.Cond.lays "java/lang/ArrayIndexOutOfBoundsException" "java/lang/Throwable" "cause" "Ljava/lang/Throwable;") ∈ lw_all := lw_g (lw_at lw_m4 33 rfl) rfl
theorem q823 : (Jvm.Cond.lays "java/lang/ArrayIndexOutOfBoundsException" "java/lang/Throwable" "stackTrace" "[Ljava/lang/StackTraceElement;") ∈ lw_all := lw_g (lw_at lw_m4 34 rfl) rfl
theorem q824 : (Jvm.Cond.lays "java/lang/ArrayIndexOutOfBoundsException" "java/lang/Throwable" "depth" "I") ∈ lw_all := lw_g (lw_at lw_m4 35 rfl) rfl
theorem q825 : (Jvm.Cond.lays "java/lang/ArrayIndexOutOfBoundsException" "java/lang/Throwable" "suppressedExceptions" "Ljava/util/List;") ∈ lw_all := lw_g (lw_at lw_m4 36 rfl) rfl
theorem q826 : (Jvm.Cond.superclass "java/lang/ArrayIndexOutOfBoundsException" "java/lang/IndexOutOfBoundsException") ∈ lw_all := lw_g (lw_at lw_m4 37 rfl) rfl
theorem q827 : (Jvm.Cond.castable "java/lang/ArrayIndexOutOfBoundsException" "java/lang/ArrayIndexOutOfBoundsException") ∈ lw_tbl := lw_at lw_m4 38 rfl
theorem q830 : (Jvm.Cond.selects "java/lang/ArrayIndexOutOfBoundsException" ({ cls := "java/lang/Throwable", name := "fillInStackTrace", desc := "(I)Ljava/lang/Throwable;" } : Jvm.MethodName) ({ cls := "java/lang/Throwable", name := "fillInStackTrace", desc := "(I)Ljava/lang/Throwable;" } : Jvm.MethodName)) ∈ lw_all := lw_g (lw_at lw_m4 41 rfl) rfl
theorem q1328 : (Jvm.Cond.castable "java/lang/ArrayIndexOutOfBoundsException" "java/lang/IndexOutOfBoundsException") ∈ lw_tbl := lw_at lw_m6 59 rfl
theorem in_J11 : ∀ w ∈ wsJ110, w ∈ lw_all := lw_in wsJ110 [820, 821, 822, 823, 824, 825] (by decide +kernel) (by decide +kernel)
/-! java/lang/Object -/
set_option maxRecDepth 100000
def RJ12 : String := "java/lang/Object"
abbrev cJ12_init : ByteArray := object_method_1_code
def yJ12_init : MethodName := ⟨RJ12, "<init>", "()V"⟩
theorem dJ12_init_0 : decode cJ12_init 0 = .ok (.return_, 1) := by decide +kernel
theorem q95 : (Jvm.Cond.instanceMethod ({ cls := "java/lang/Object", name := "<init>", desc := "()V" } : Jvm.MethodName)) ∈ lw_all := lw_g (lw_at lw_m1 26 rfl) rfl
theorem q96 : (Jvm.Cond.code ({ cls := "java/lang/Object", name := "<init>", desc := "()V" } : Jvm.MethodName) object_method_1_code (1 : Nat) (Option.none : Option Jvm.ClassFile.FieldType)) ∈ lw_all := lw_g (lw_at lw_m1 27 rfl) rfl
theorem q98 : (Jvm.Cond.arrayOver (Jvm.ClassFile.FieldType.object "HeirHunters$Line")) ∈ lw_tbl := lw_at lw_m1 29 rfl
set_option maxRecDepth 100000
theorem q100 : (Jvm.Cond.arrayOver (Jvm.ClassFile.FieldType.array Jvm.ClassFile.FieldType.int)) ∈ lw_tbl := lw_at lw_m1 31 rfl
theorem q225 : (Jvm.Cond.arrayClass Jvm.ClassFile.FieldType.int) ∈ lw_all := lw_g (lw_at lw_m1 156 rfl) rfl
theorem q226 : (Jvm.Cond.arrayClass Jvm.ClassFile.FieldType.boolean) ∈ lw_all := lw_g (lw_at lw_m1 157 rfl) rfl
theorem q227 : (Jvm.Cond.arrayClass Jvm.ClassFile.FieldType.long) ∈ lw_all := lw_g (lw_at lw_m1 158 rfl) rfl
theorem q446 : (Jvm.Cond.arrayClass Jvm.ClassFile.FieldType.byte) ∈ lw_all := lw_g (lw_at lw_m2 137 rfl) rfl
theorem q69 : (Jvm.Cond.initialized "HeirHuntersLaw") ∈ lw_all := lw_g (lw_at lw_m1 0 rfl) rfl
set_option maxRecDepth 100000
theorem q89 : (Jvm.Cond.classLink "HeirHuntersLaw" (7 : Nat) "HeirHunters") ∈ lw_all := lw_g (lw_at lw_m1 20 rfl) rfl
theorem q91 : (Jvm.Cond.methodLink "HeirHuntersLaw" (9 : Nat) ({ cls := "HeirHunters", name := "<init>", desc := "()V" } : Jvm.MethodName)) ∈ lw_all := lw_g (lw_at lw_m1 22 rfl) rfl
theorem q228 : (Jvm.Cond.methodLink "HeirHuntersLaw" (142 : Nat) ({ cls := "HeirHunters", name := "upper", desc := "()J" } : Jvm.MethodName)) ∈ lw_all := lw_g (lw_at lw_m1 159 rfl) rfl
theorem q232 : (Jvm.Cond.methodLink "HeirHuntersLaw" (147 : Nat) ({ cls := "HeirHunters", name := "lower", desc := "()J" } : Jvm.MethodName)) ∈ lw_all := lw_g (lw_at lw_m1 163 rfl) rfl
theorem q236 : (Jvm.Cond.methodLink "HeirHuntersLaw" (13 : Nat) ({ cls := "HeirHunters", name := "person", desc := "(III)I" } : Jvm.MethodName)) ∈ lw_all := lw_g (lw_at lw_m1 167 rfl) rfl
theorem q247 : (Jvm.Cond.methodLink "HeirHuntersLaw" (18 : Nat) ({ cls := "HeirHunters", name := "told", desc := "(II)I" } : Jvm.MethodName)) ∈ lw_all := lw_g (lw_at lw_m1 178 rfl) rfl
theorem q259 : (Jvm.Cond.methodLink "HeirHuntersLaw" (23 : Nat) ({ cls := "HeirHunters", name := "die", desc := "(II)I" } : Jvm.MethodName)) ∈ lw_all := lw_g (lw_at lw_m1 190 rfl) rfl
theorem q263 : (Jvm.Cond.methodLink "HeirHuntersLaw" (27 : Nat) ({ cls := "HeirHunters", name := "line", desc := "(IIIII)I" } : Jvm.MethodName)) ∈ lw_all := lw_g (lw_at lw_m1 194 rfl) rfl
theorem q332 : (Jvm.Cond.methodLink "HeirHuntersLaw" (32 : Nat) ({ cls := "HeirHunters", name := "lineTold", desc := "(II)I" } : Jvm.MethodName)) ∈ lw_all := lw_g (lw_at lw_m2 23 rfl) rfl
theorem q361 : (Jvm.Cond.methodLink "HeirHuntersLaw" (36 : Nat) ({ cls := "HeirHunters", name := "mark", desc := "(II)I" } : Jvm.MethodName)) ∈ lw_all := lw_g (lw_at lw_m2 52 rfl) rfl
theorem q471 : (Jvm.Cond.methodLink "HeirHuntersLaw" (40 : Nat) ({ cls := "HeirHunters", name := "prove", desc := "(II)I" } : Jvm.MethodName)) ∈ lw_all := lw_g (lw_at lw_m2 162 rfl) rfl
theorem q492 : (Jvm.Cond.methodLink "HeirHuntersLaw" (44 : Nat) ({ cls := "HeirHunters", name := "strike", desc := "(I)I" } : Jvm.MethodName)) ∈ lw_all := lw_g (lw_at lw_m2 183 rfl) rfl
theorem q496 : (Jvm.Cond.methodLink "HeirHuntersLaw" (49 : Nat) ({ cls := "HeirHunters", name := "couple", desc := "(IIII)I" } : Jvm.MethodName)) ∈ lw_all := lw_g (lw_at lw_m2 187 rfl) rfl
theorem q500 : (Jvm.Cond.methodLink "HeirHuntersLaw" (54 : Nat) ({ cls := "HeirHunters", name := "law", desc := "(IIIIZI)I" } : Jvm.MethodName)) ∈ lw_all := lw_g (lw_at lw_m2 191 rfl) rfl
theorem q504 : (Jvm.Cond.methodLink "HeirHuntersLaw" (59 : Nat) ({ cls := "HeirHunters", name := "lawOf", desc := "(I)I" } : Jvm.MethodName)) ∈ lw_all := lw_g (lw_at lw_m2 195 rfl) rfl
theorem q520 : (Jvm.Cond.methodLink "HeirHuntersLaw" (63 : Nat) ({ cls := "HeirHunters", name := "share", desc := "(IIZ)I" } : Jvm.MethodName)) ∈ lw_all := lw_g (lw_at lw_m2 211 rfl) rfl
theorem q624 : (Jvm.Cond.methodLink "HeirHuntersLaw" (68 : Nat) ({ cls := "HeirHunters", name := "circle", desc := "(IZ)I" } : Jvm.MethodName)) ∈ lw_all := lw_g (lw_at lw_m3 75 rfl) rfl
theorem q628 : (Jvm.Cond.methodLink "HeirHuntersLaw" (73 : Nat) ({ cls := "HeirHunters", name := "heirs", desc := "(IZ)I" } : Jvm.MethodName)) ∈ lw_all := lw_g (lw_at lw_m3 79 rfl) rfl
theorem q632 : (Jvm.Cond.methodLink "HeirHuntersLaw" (93 : Nat) ({ cls := "HeirHunters", name := "open", desc := "()I" } : Jvm.MethodName)) ∈ lw_all := lw_g (lw_at lw_m3 83 rfl) rfl
theorem q652 : (Jvm.Cond.methodLink "HeirHuntersLaw" (77 : Nat) ({ cls := "HeirHunters", name := "bound", desc := "(IIZ)I" } : Jvm.MethodName)) ∈ lw_all := lw_g (lw_at lw_m3 103 rfl) rfl
theorem q674 : (Jvm.Cond.methodLink "HeirHuntersLaw" (81 : Nat) ({ cls := "HeirHunters", name := "spread", desc := "(I)I" } : Jvm.MethodName)) ∈ lw_all := lw_g (lw_at lw_m3 125 rfl) rfl
theorem q682 : (Jvm.Cond.methodLink "HeirHuntersLaw" (85 : Nat) ({ cls := "HeirHunters", name := "worth", desc := "(II)I" } : Jvm.MethodName)) ∈ lw_all := lw_g (lw_at lw_m3 133 rfl) rfl
theorem q698 : (Jvm.Cond.methodLink "HeirHuntersLaw" (89 : Nat) ({ cls := "HeirHunters", name := "look", desc := "(I)I" } : Jvm.MethodName)) ∈ lw_all := lw_g (lw_at lw_m3 149 rfl) rfl
theorem q702 : (Jvm.Cond.methodLink "HeirHuntersLaw" (98 : Nat) ({ cls := "HeirHunters", name := "estate", desc := "(II)I" } : Jvm.MethodName)) ∈ lw_all := lw_g (lw_at lw_m3 153 rfl) rfl
theorem q707 : (Jvm.Cond.methodLink "HeirHuntersLaw" (102 : Nat) ({ cls := "HeirHunters", name := "pay", desc := "(III)I" } : Jvm.MethodName)) ∈ lw_all := lw_g (lw_at lw_m3 158 rfl) rfl
theorem q715 : (Jvm.Cond.methodLink "HeirHuntersLaw" (106 : Nat) ({ cls := "HeirHunters", name := "due", desc := "(II)I" } : Jvm.MethodName)) ∈ lw_all := lw_g (lw_at lw_m3 166 rfl) rfl
theorem q723 : (Jvm.Cond.methodLink "HeirHuntersLaw" (110 : Nat) ({ cls := "HeirHunters", name := "paid", desc := "(II)I" } : Jvm.MethodName)) ∈ lw_all := lw_g (lw_at lw_m3 174 rfl) rfl
theorem q727 : (Jvm.Cond.methodLink "HeirHuntersLaw" (114 : Nat) ({ cls := "HeirHunters", name := "owes", desc := "(II)I" } : Jvm.MethodName)) ∈ lw_all := lw_g (lw_at lw_m3 178 rfl) rfl
theorem q734 : (Jvm.Cond.methodLink "HeirHuntersLaw" (118 : Nat) ({ cls := "HeirHunters", name := "mean", desc := "(I)I" } : Jvm.MethodName)) ∈ lw_all := lw_g (lw_at lw_m3 185 rfl) rfl
theorem q752 : (Jvm.Cond.methodLink "HeirHuntersLaw" (122 : Nat) ({ cls := "HeirHunters", name := "sheet", desc := "(II)I" } : Jvm.MethodName)) ∈ lw_all := lw_g (lw_at lw_m3 203 rfl) rfl
theorem q773 : (Jvm.Cond.methodLink "HeirHuntersLaw" (126 : Nat) ({ cls := "HeirHunters", name := "note", desc := "(II)I" } : Jvm.MethodName)) ∈ lw_all := lw_g (lw_at lw_m3 224 rfl) rfl
theorem q783 : (Jvm.Cond.methodLink "HeirHuntersLaw" (130 : Nat) ({ cls := "HeirHunters", name := "at", desc := "(II)I" } : Jvm.MethodName)) ∈ lw_all := lw_g (lw_at lw_m3 234 rfl) rfl
theorem q831 : (Jvm.Cond.methodLink "HeirHuntersLaw" (134 : Nat) ({ cls := "HeirHunters", name := "tear", desc := "(I)I" } : Jvm.MethodName)) ∈ lw_all := lw_g (lw_at lw_m4 42 rfl) rfl
theorem q835 : (Jvm.Cond.methodLink "HeirHuntersLaw" (138 : Nat) ({ cls := "HeirHunters", name := "copy", desc := "(IIIII)I" } : Jvm.MethodName)) ∈ lw_all := lw_g (lw_at lw_m4 46 rfl) rfl
theorem q839 : (Jvm.Cond.methodLink "HeirHuntersLaw" (151 : Nat) ({ cls := "HeirHunters", name := "count", desc := "(I)I" } : Jvm.MethodName)) ∈ lw_all := lw_g (lw_at lw_m4 50 rfl) rfl
theorem q843 : (Jvm.Cond.methodLink "HeirHuntersLaw" (155 : Nat) ({ cls := "HeirHunters", name := "finding", desc := "()I" } : Jvm.MethodName)) ∈ lw_all := lw_g (lw_at lw_m4 54 rfl) rfl
theorem q847 : (Jvm.Cond.methodLink "HeirHuntersLaw" (159 : Nat) ({ cls := "HeirHunters", name := "findings", desc := "(I)I" } : Jvm.MethodName)) ∈ lw_all := lw_g (lw_at lw_m4 58 rfl) rfl
theorem q851 : (Jvm.Cond.methodLink "HeirHuntersLaw" (163 : Nat) ({ cls := "HeirHunters", name := "digest", desc := "()J" } : Jvm.MethodName)) ∈ lw_all := lw_g (lw_at lw_m4 62 rfl) rfl
theorem q859 : (Jvm.Cond.classLink "HeirHuntersLaw" (10 : Nat) "HeirHuntersModel") ∈ lw_all := lw_g (lw_at lw_m4 70 rfl) rfl
theorem q861 : (Jvm.Cond.methodLink "HeirHuntersLaw" (12 : Nat) ({ cls := "HeirHuntersModel", name := "<init>", desc := "()V" } : Jvm.MethodName)) ∈ lw_all := lw_g (lw_at lw_m4 72 rfl) rfl
theorem q1031 : (Jvm.Cond.methodLink "HeirHuntersLaw" (17 : Nat) ({ cls := "HeirHuntersModel", name := "person", desc := "(III)I" } : Jvm.MethodName)) ∈ lw_all := lw_g (lw_at lw_m5 2 rfl) rfl
theorem q1042 : (Jvm.Cond.methodLink "HeirHuntersLaw" (22 : Nat) ({ cls := "HeirHuntersModel", name := "told", desc := "(II)I" } : Jvm.MethodName)) ∈ lw_all := lw_g (lw_at lw_m5 13 rfl) rfl
theorem q1058 : (Jvm.Cond.methodLink "HeirHuntersLaw" (26 : Nat) ({ cls := "HeirHuntersModel", name := "die", desc := "(II)I" } : Jvm.MethodName)) ∈ lw_all := lw_g (lw_at lw_m5 29 rfl) rfl
theorem q1062 : (Jvm.Cond.methodLink "HeirHuntersLaw" (31 : Nat) ({ cls := "HeirHuntersModel", name := "line", desc := "(IIIII)I" } : Jvm.MethodName)) ∈ lw_all := lw_g (lw_at lw_m5 33 rfl) rfl
theorem q1066 : (Jvm.Cond.methodLink "HeirHuntersLaw" (35 : Nat) ({ cls := "HeirHuntersModel", name := "lineTold", desc := "(II)I" } : Jvm.MethodName)) ∈ lw_all := lw_g (lw_at lw_m5 37 rfl) rfl
theorem q1078 : (Jvm.Cond.methodLink "HeirHuntersLaw" (39 : Nat) ({ cls := "HeirHuntersModel", name := "mark", desc := "(II)I" } : Jvm.MethodName)) ∈ lw_all := lw_g (lw_at lw_m5 49 rfl) rfl
theorem q1086 : (Jvm.Cond.methodLink "HeirHuntersLaw" (43 : Nat) ({ cls := "HeirHuntersModel", name := "prove", desc := "(II)I" } : Jvm.MethodName)) ∈ lw_all := lw_g (lw_at lw_m5 57 rfl) rfl
theorem q1090 : (Jvm.Cond.methodLink "HeirHuntersLaw" (48 : Nat) ({ cls := "HeirHuntersModel", name := "strike", desc := "(I)I" } : Jvm.MethodName)) ∈ lw_all := lw_g (lw_at lw_m5 61 rfl) rfl
theorem q1094 : (Jvm.Cond.methodLink "HeirHuntersLaw" (53 : Nat) ({ cls := "HeirHuntersModel", name := "couple", desc := "(IIII)I" } : Jvm.MethodName)) ∈ lw_all := lw_g (lw_at lw_m5 65 rfl) rfl
theorem q1098 : (Jvm.Cond.methodLink "HeirHuntersLaw" (58 : Nat) ({ cls := "HeirHuntersModel", name := "law", desc := "(IIIIZI)I" } : Jvm.MethodName)) ∈ lw_all := lw_g (lw_at lw_m5 69 rfl) rfl
theorem q1102 : (Jvm.Cond.methodLink "HeirHuntersLaw" (62 : Nat) ({ cls := "HeirHuntersModel", name := "lawOf", desc := "(I)I" } : Jvm.MethodName)) ∈ lw_all := lw_g (lw_at lw_m5 73 rfl) rfl
theorem q1118 : (Jvm.Cond.methodLink "HeirHuntersLaw" (67 : Nat) ({ cls := "HeirHuntersModel", name := "share", desc := "(IIZ)I" } : Jvm.MethodName)) ∈ lw_all := lw_g (lw_at lw_m5 89 rfl) rfl
theorem q1185 : (Jvm.Cond.methodLink "HeirHuntersLaw" (72 : Nat) ({ cls := "HeirHuntersModel", name := "circle", desc := "(IZ)I" } : Jvm.MethodName)) ∈ lw_all := lw_g (lw_at lw_m5 156 rfl) rfl
theorem q1189 : (Jvm.Cond.methodLink "HeirHuntersLaw" (76 : Nat) ({ cls := "HeirHuntersModel", name := "heirs", desc := "(IZ)I" } : Jvm.MethodName)) ∈ lw_all := lw_g (lw_at lw_m5 160 rfl) rfl
theorem q1193 : (Jvm.Cond.methodLink "HeirHuntersLaw" (80 : Nat) ({ cls := "HeirHuntersModel", name := "bound", desc := "(IIZ)I" } : Jvm.MethodName)) ∈ lw_all := lw_g (lw_at lw_m5 164 rfl) rfl
theorem q1212 : (Jvm.Cond.methodLink "HeirHuntersLaw" (84 : Nat) ({ cls := "HeirHuntersModel", name := "spread", desc := "(I)I" } : Jvm.MethodName)) ∈ lw_all := lw_g (lw_at lw_m5 183 rfl) rfl
theorem q1220 : (Jvm.Cond.methodLink "HeirHuntersLaw" (88 : Nat) ({ cls := "HeirHuntersModel", name := "worth", desc := "(II)I" } : Jvm.MethodName)) ∈ lw_all := lw_g (lw_at lw_m5 191 rfl) rfl
theorem q1228 : (Jvm.Cond.methodLink "HeirHuntersLaw" (92 : Nat) ({ cls := "HeirHuntersModel", name := "look", desc := "(I)I" } : Jvm.MethodName)) ∈ lw_all := lw_g (lw_at lw_m5 199 rfl) rfl
theorem q1232 : (Jvm.Cond.methodLink "HeirHuntersLaw" (97 : Nat) ({ cls := "HeirHuntersModel", name := "open", desc := "()I" } : Jvm.MethodName)) ∈ lw_all := lw_g (lw_at lw_m5 203 rfl) rfl
theorem q1236 : (Jvm.Cond.methodLink "HeirHuntersLaw" (101 : Nat) ({ cls := "HeirHuntersModel", name := "estate", desc := "(II)I" } : Jvm.MethodName)) ∈ lw_all := lw_g (lw_at lw_m5 207 rfl) rfl
theorem q1241 : (Jvm.Cond.methodLink "HeirHuntersLaw" (105 : Nat) ({ cls := "HeirHuntersModel", name := "pay", desc := "(III)I" } : Jvm.MethodName)) ∈ lw_all := lw_g (lw_at lw_m5 212 rfl) rfl
theorem q1249 : (Jvm.Cond.methodLink "HeirHuntersLaw" (109 : Nat) ({ cls := "HeirHuntersModel", name := "due", desc := "(II)I" } : Jvm.MethodName)) ∈ lw_all := lw_g (lw_at lw_m5 220 rfl) rfl
theorem q1257 : (Jvm.Cond.methodLink "HeirHuntersLaw" (113 : Nat) ({ cls := "HeirHuntersModel", name := "paid", desc := "(II)I" } : Jvm.MethodName)) ∈ lw_all := lw_g (lw_at lw_m5 228 rfl) rfl
theorem q1261 : (Jvm.Cond.methodLink "HeirHuntersLaw" (117 : Nat) ({ cls := "HeirHuntersModel", name := "owes", desc := "(II)I" } : Jvm.MethodName)) ∈ lw_all := lw_g (lw_at lw_m5 232 rfl) rfl
theorem q1265 : (Jvm.Cond.methodLink "HeirHuntersLaw" (121 : Nat) ({ cls := "HeirHuntersModel", name := "mean", desc := "(I)I" } : Jvm.MethodName)) ∈ lw_all := lw_g (lw_at lw_m5 236 rfl) rfl
theorem q1269 : (Jvm.Cond.methodLink "HeirHuntersLaw" (125 : Nat) ({ cls := "HeirHuntersModel", name := "sheet", desc := "(II)I" } : Jvm.MethodName)) ∈ lw_all := lw_g (lw_at lw_m6 0 rfl) rfl
theorem q1276 : (Jvm.Cond.methodLink "HeirHuntersLaw" (129 : Nat) ({ cls := "HeirHuntersModel", name := "note", desc := "(II)I" } : Jvm.MethodName)) ∈ lw_all := lw_g (lw_at lw_m6 7 rfl) rfl
theorem q1280 : (Jvm.Cond.methodLink "HeirHuntersLaw" (133 : Nat) ({ cls := "HeirHuntersModel", name := "at", desc := "(II)I" } : Jvm.MethodName)) ∈ lw_all := lw_g (lw_at lw_m6 11 rfl) rfl
theorem q1284 : (Jvm.Cond.methodLink "HeirHuntersLaw" (137 : Nat) ({ cls := "HeirHuntersModel", name := "tear", desc := "(I)I" } : Jvm.MethodName)) ∈ lw_all := lw_g (lw_at lw_m6 15 rfl) rfl
theorem q1288 : (Jvm.Cond.methodLink "HeirHuntersLaw" (141 : Nat) ({ cls := "HeirHuntersModel", name := "copy", desc := "(IIIII)I" } : Jvm.MethodName)) ∈ lw_all := lw_g (lw_at lw_m6 19 rfl) rfl
theorem q1292 : (Jvm.Cond.methodLink "HeirHuntersLaw" (146 : Nat) ({ cls := "HeirHuntersModel", name := "upper", desc := "()J" } : Jvm.MethodName)) ∈ lw_all := lw_g (lw_at lw_m6 23 rfl) rfl
theorem q1296 : (Jvm.Cond.methodLink "HeirHuntersLaw" (150 : Nat) ({ cls := "HeirHuntersModel", name := "lower", desc := "()J" } : Jvm.MethodName)) ∈ lw_all := lw_g (lw_at lw_m6 27 rfl) rfl
theorem q1300 : (Jvm.Cond.methodLink "HeirHuntersLaw" (154 : Nat) ({ cls := "HeirHuntersModel", name := "count", desc := "(I)I" } : Jvm.MethodName)) ∈ lw_all := lw_g (lw_at lw_m6 31 rfl) rfl
theorem q1308 : (Jvm.Cond.methodLink "HeirHuntersLaw" (158 : Nat) ({ cls := "HeirHuntersModel", name := "finding", desc := "()I" } : Jvm.MethodName)) ∈ lw_all := lw_g (lw_at lw_m6 39 rfl) rfl
theorem q1312 : (Jvm.Cond.methodLink "HeirHuntersLaw" (162 : Nat) ({ cls := "HeirHuntersModel", name := "findings", desc := "(I)I" } : Jvm.MethodName)) ∈ lw_all := lw_g (lw_at lw_m6 43 rfl) rfl
theorem q1316 : (Jvm.Cond.methodLink "HeirHuntersLaw" (166 : Nat) ({ cls := "HeirHuntersModel", name := "digest", desc := "()J" } : Jvm.MethodName)) ∈ lw_all := lw_g (lw_at lw_m6 47 rfl) rfl
theorem q85 : (Jvm.Cond.initialized "java/lang/System") ∈ lw_all := lw_g (lw_at lw_m1 16 rfl) rfl
set_option maxRecDepth 100000
theorem q781 : (Jvm.Cond.static ({ cls := "java/lang/System", name := "arraycopy", desc := "(Ljava/lang/Object;ILjava/lang/Object;II)V" } : Jvm.MethodName)) ∈ lw_all := lw_g (lw_at lw_m3 232 rfl) rfl
theorem q782 : (Jvm.Cond.native ({ cls := "java/lang/System", name := "arraycopy", desc := "(Ljava/lang/Object;ILjava/lang/Object;II)V" } : Jvm.MethodName)) ∈ lw_all := lw_g (lw_at lw_m3 233 rfl) rfl
/-! the law's own entry -/
set_option maxRecDepth 100000
abbrev cL_law : ByteArray := code
def dkwL_law_56 : List UInt8 := [132, 3, 7, 167, 250, 106, 4, 172]
abbrev dktL_law_56 : List UInt8 := dkwL_law_56 ++ []
def dkwL_law_55 : List UInt8 := [182, 0, 162, 159, 0, 19, 3, 172, 43, 182, 0, 163, 44, 182, 0, 166, 148, 153, 0, 5, 3, 172]
abbrev dktL_law_55 : List UInt8 := dkwL_law_55 ++ dktL_law_56
def dkwL_law_54 : List UInt8 := [182, 0, 158, 159, 0, 42, 3, 172, 43, 42, 29, 4, 96, 46, 182, 0, 159, 44, 42, 29, 4, 96, 46]
abbrev dktL_law_54 : List UInt8 := dkwL_law_54 ++ dktL_law_55
def dkwL_law_53 : List UInt8 := [46, 182, 0, 151, 44, 42, 29, 4, 96, 46, 182, 0, 154, 159, 0, 55, 3, 172, 43, 182, 0, 155, 44]
abbrev dktL_law_53 : List UInt8 := dkwL_law_53 ++ dktL_law_54
def dkwL_law_52 : List UInt8 := [153, 0, 92, 3, 172, 43, 182, 0, 147, 44, 182, 0, 150, 148, 153, 0, 78, 3, 172, 43, 42, 29, 4, 96]
abbrev dktL_law_52 : List UInt8 := dkwL_law_52 ++ dktL_law_53
def dkwL_law_51 : List UInt8 := [42, 29, 8, 96, 46, 182, 0, 141, 159, 0, 106, 3, 172, 43, 182, 0, 142, 44, 182, 0, 146, 148]
abbrev dktL_law_51 : List UInt8 := dkwL_law_51 ++ dktL_law_52
def dkwL_law_50 : List UInt8 := [182, 0, 138, 44, 42, 29, 4, 96, 46, 42, 29, 5, 96, 46, 42, 29, 6, 96, 46, 42, 29, 7, 96, 46]
abbrev dktL_law_50 : List UInt8 := dkwL_law_50 ++ dktL_law_51
def dkwL_law_49 : List UInt8 := [4, 96, 46, 42, 29, 5, 96, 46, 42, 29, 6, 96, 46, 42, 29, 7, 96, 46, 42, 29, 8, 96, 46]
abbrev dktL_law_49 : List UInt8 := dkwL_law_49 ++ dktL_law_50
def dkwL_law_48 : List UInt8 := [29, 4, 96, 46, 182, 0, 134, 44, 42, 29, 4, 96, 46, 182, 0, 137, 159, 0, 169, 3, 172, 43, 42, 29]
abbrev dktL_law_48 : List UInt8 := dkwL_law_48 ++ dktL_law_49
def dkwL_law_47 : List UInt8 := [182, 0, 130, 44, 42, 29, 4, 96, 46, 42, 29, 5, 96, 46, 182, 0, 133, 159, 0, 192, 3, 172, 43, 42]
abbrev dktL_law_47 : List UInt8 := dkwL_law_47 ++ dktL_law_48
def dkwL_law_46 : List UInt8 := [5, 96, 46, 182, 0, 129, 159, 0, 225, 3, 172, 43, 42, 29, 4, 96, 46, 42, 29, 5, 96, 46]
abbrev dktL_law_46 : List UInt8 := dkwL_law_46 ++ dktL_law_47
def dkwL_law_45 : List UInt8 := [3, 172, 43, 42, 29, 4, 96, 46, 42, 29, 5, 96, 46, 182, 0, 126, 44, 42, 29, 4, 96, 46, 42, 29]
abbrev dktL_law_45 : List UInt8 := dkwL_law_45 ++ dktL_law_46
def dkwL_law_44 : List UInt8 := [29, 5, 96, 46, 182, 0, 122, 44, 42, 29, 4, 96, 46, 42, 29, 5, 96, 46, 182, 0, 125, 159, 1, 2]
abbrev dktL_law_44 : List UInt8 := dkwL_law_44 ++ dktL_law_45
def dkwL_law_43 : List UInt8 := [182, 0, 118, 44, 42, 29, 4, 96, 46, 182, 0, 121, 159, 1, 35, 3, 172, 43, 42, 29, 4, 96, 46, 42]
abbrev dktL_law_43 : List UInt8 := dkwL_law_43 ++ dktL_law_44
def dkwL_law_42 : List UInt8 := [29, 4, 96, 46, 42, 29, 5, 96, 46, 182, 0, 117, 159, 1, 58, 3, 172, 43, 42, 29, 4, 96, 46]
abbrev dktL_law_42 : List UInt8 := dkwL_law_42 ++ dktL_law_43
def dkwL_law_41 : List UInt8 := [182, 0, 113, 159, 1, 91, 3, 172, 43, 42, 29, 4, 96, 46, 42, 29, 5, 96, 46, 182, 0, 114, 44, 42]
abbrev dktL_law_41 : List UInt8 := dkwL_law_41 ++ dktL_law_42
def dkwL_law_40 : List UInt8 := [29, 4, 96, 46, 42, 29, 5, 96, 46, 182, 0, 110, 44, 42, 29, 4, 96, 46, 42, 29, 5, 96, 46]
abbrev dktL_law_40 : List UInt8 := dkwL_law_40 ++ dktL_law_41
def dkwL_law_39 : List UInt8 := [182, 0, 106, 44, 42, 29, 4, 96, 46, 42, 29, 5, 96, 46, 182, 0, 109, 159, 1, 124, 3, 172, 43, 42]
abbrev dktL_law_39 : List UInt8 := dkwL_law_39 ++ dktL_law_40
def dkwL_law_38 : List UInt8 := [29, 6, 96, 46, 182, 0, 105, 159, 1, 157, 3, 172, 43, 42, 29, 4, 96, 46, 42, 29, 5, 96, 46]
abbrev dktL_law_38 : List UInt8 := dkwL_law_38 ++ dktL_law_39
def dkwL_law_37 : List UInt8 := [29, 5, 96, 46, 42, 29, 6, 96, 46, 182, 0, 102, 44, 42, 29, 4, 96, 46, 42, 29, 5, 96, 46, 42]
abbrev dktL_law_37 : List UInt8 := dkwL_law_37 ++ dktL_law_38
def dkwL_law_36 : List UInt8 := [29, 4, 96, 46, 42, 29, 5, 96, 46, 182, 0, 101, 159, 1, 200, 3, 172, 43, 42, 29, 4, 96, 46, 42]
abbrev dktL_law_36 : List UInt8 := dkwL_law_36 ++ dktL_law_37
def dkwL_law_35 : List UInt8 := [182, 0, 97, 159, 1, 233, 3, 172, 43, 42, 29, 4, 96, 46, 42, 29, 5, 96, 46, 182, 0, 98, 44, 42]
abbrev dktL_law_35 : List UInt8 := dkwL_law_35 ++ dktL_law_36
def dkwL_law_34 : List UInt8 := [182, 0, 89, 44, 42, 29, 4, 96, 46, 182, 0, 92, 159, 1, 246, 3, 172, 43, 182, 0, 93, 44]
abbrev dktL_law_34 : List UInt8 := dkwL_law_34 ++ dktL_law_35
def dkwL_law_33 : List UInt8 := [29, 4, 96, 46, 42, 29, 5, 96, 46, 182, 0, 88, 159, 2, 13, 3, 172, 43, 42, 29, 4, 96, 46]
abbrev dktL_law_33 : List UInt8 := dkwL_law_33 ++ dktL_law_34
def dkwL_law_32 : List UInt8 := [182, 0, 84, 159, 2, 46, 3, 172, 43, 42, 29, 4, 96, 46, 42, 29, 5, 96, 46, 182, 0, 85, 44, 42]
abbrev dktL_law_32 : List UInt8 := dkwL_law_32 ++ dktL_law_33
def dkwL_law_31 : List UInt8 := [182, 0, 80, 159, 2, 69, 3, 172, 43, 42, 29, 4, 96, 46, 182, 0, 81, 44, 42, 29, 4, 96, 46]
abbrev dktL_law_31 : List UInt8 := dkwL_law_31 ++ dktL_law_32
def dkwL_law_30 : List UInt8 := [44, 42, 29, 4, 96, 46, 42, 29, 5, 96, 46, 42, 29, 6, 96, 46, 153, 0, 7, 4, 167, 0, 4, 3]
abbrev dktL_law_30 : List UInt8 := dkwL_law_30 ++ dktL_law_31
def dkwL_law_29 : List UInt8 := [4, 96, 46, 42, 29, 5, 96, 46, 42, 29, 6, 96, 46, 153, 0, 7, 4, 167, 0, 4, 3, 182, 0, 77]
abbrev dktL_law_29 : List UInt8 := dkwL_law_29 ++ dktL_law_30
def dkwL_law_28 : List UInt8 := [42, 29, 5, 96, 46, 153, 0, 7, 4, 167, 0, 4, 3, 182, 0, 76, 159, 2, 128, 3, 172, 43, 42, 29]
abbrev dktL_law_28 : List UInt8 := dkwL_law_28 ++ dktL_law_29
def dkwL_law_27 : List UInt8 := [96, 46, 42, 29, 5, 96, 46, 153, 0, 7, 4, 167, 0, 4, 3, 182, 0, 73, 44, 42, 29, 4, 96, 46]
abbrev dktL_law_27 : List UInt8 := dkwL_law_27 ++ dktL_law_28
def dkwL_law_26 : List UInt8 := [29, 5, 96, 46, 153, 0, 7, 4, 167, 0, 4, 3, 182, 0, 72, 159, 2, 177, 3, 172, 43, 42, 29, 4]
abbrev dktL_law_26 : List UInt8 := dkwL_law_26 ++ dktL_law_27
def dkwL_law_25 : List UInt8 := [46, 42, 29, 5, 96, 46, 153, 0, 7, 4, 167, 0, 4, 3, 182, 0, 68, 44, 42, 29, 4, 96, 46, 42]
abbrev dktL_law_25 : List UInt8 := dkwL_law_25 ++ dktL_law_26
def dkwL_law_24 : List UInt8 := [6, 96, 46, 153, 0, 7, 4, 167, 0, 4, 3, 182, 0, 67, 159, 2, 226, 3, 172, 43, 42, 29, 4, 96]
abbrev dktL_law_24 : List UInt8 := dkwL_law_24 ++ dktL_law_25
def dkwL_law_23 : List UInt8 := [153, 0, 7, 4, 167, 0, 4, 3, 182, 0, 63, 44, 42, 29, 4, 96, 46, 42, 29, 5, 96, 46, 42, 29]
abbrev dktL_law_23 : List UInt8 := dkwL_law_23 ++ dktL_law_24
def dkwL_law_22 : List UInt8 := [182, 0, 62, 159, 3, 29, 3, 172, 43, 42, 29, 4, 96, 46, 42, 29, 5, 96, 46, 42, 29, 6, 96, 46]
abbrev dktL_law_22 : List UInt8 := dkwL_law_22 ++ dktL_law_23
def dkwL_law_21 : List UInt8 := [182, 0, 58, 159, 3, 52, 3, 172, 43, 42, 29, 4, 96, 46, 182, 0, 59, 44, 42, 29, 4, 96, 46]
abbrev dktL_law_21 : List UInt8 := dkwL_law_21 ++ dktL_law_22
def dkwL_law_20 : List UInt8 := [42, 29, 7, 96, 46, 42, 29, 8, 96, 46, 153, 0, 7, 4, 167, 0, 4, 3, 42, 29, 16, 6, 96, 46]
abbrev dktL_law_20 : List UInt8 := dkwL_law_20 ++ dktL_law_21
def dkwL_law_19 : List UInt8 := [29, 16, 6, 96, 46, 182, 0, 54, 44, 42, 29, 4, 96, 46, 42, 29, 5, 96, 46, 42, 29, 6, 96, 46]
abbrev dktL_law_19 : List UInt8 := dkwL_law_19 ++ dktL_law_20
def dkwL_law_18 : List UInt8 := [42, 29, 6, 96, 46, 42, 29, 7, 96, 46, 42, 29, 8, 96, 46, 153, 0, 7, 4, 167, 0, 4, 3, 42]
abbrev dktL_law_18 : List UInt8 := dkwL_law_18 ++ dktL_law_19
def dkwL_law_17 : List UInt8 := [42, 29, 7, 96, 46, 182, 0, 53, 159, 3, 143, 3, 172, 43, 42, 29, 4, 96, 46, 42, 29, 5, 96, 46]
abbrev dktL_law_17 : List UInt8 := dkwL_law_17 ++ dktL_law_18
def dkwL_law_16 : List UInt8 := [42, 29, 7, 96, 46, 182, 0, 49, 44, 42, 29, 4, 96, 46, 42, 29, 5, 96, 46, 42, 29, 6, 96, 46]
abbrev dktL_law_16 : List UInt8 := dkwL_law_16 ++ dktL_law_17
def dkwL_law_15 : List UInt8 := [182, 0, 48, 159, 3, 196, 3, 172, 43, 42, 29, 4, 96, 46, 42, 29, 5, 96, 46, 42, 29, 6, 96, 46]
abbrev dktL_law_15 : List UInt8 := dkwL_law_15 ++ dktL_law_16
def dkwL_law_14 : List UInt8 := [182, 0, 43, 159, 3, 219, 3, 172, 43, 42, 29, 4, 96, 46, 182, 0, 44, 44, 42, 29, 4, 96, 46]
abbrev dktL_law_14 : List UInt8 := dkwL_law_14 ++ dktL_law_15
def dkwL_law_13 : List UInt8 := [42, 29, 4, 96, 46, 42, 29, 5, 96, 46, 182, 0, 40, 44, 42, 29, 4, 96, 46, 42, 29, 5, 96, 46]
abbrev dktL_law_13 : List UInt8 := dkwL_law_13 ++ dktL_law_14
def dkwL_law_12 : List UInt8 := [46, 182, 0, 36, 44, 42, 29, 4, 96, 46, 42, 29, 5, 96, 46, 182, 0, 39, 159, 3, 252, 3, 172, 43]
abbrev dktL_law_12 : List UInt8 := dkwL_law_12 ++ dktL_law_13
def dkwL_law_11 : List UInt8 := [46, 42, 29, 5, 96, 46, 182, 0, 35, 159, 4, 29, 3, 172, 43, 42, 29, 4, 96, 46, 42, 29, 5, 96]
abbrev dktL_law_11 : List UInt8 := dkwL_law_11 ++ dktL_law_12
def dkwL_law_10 : List UInt8 := [159, 4, 62, 3, 172, 43, 42, 29, 4, 96, 46, 42, 29, 5, 96, 46, 182, 0, 32, 44, 42, 29, 4, 96]
abbrev dktL_law_10 : List UInt8 := dkwL_law_10 ++ dktL_law_11
def dkwL_law_9 : List UInt8 := [46, 42, 29, 5, 96, 46, 42, 29, 6, 96, 46, 42, 29, 7, 96, 46, 42, 29, 8, 96, 46, 182, 0, 31]
abbrev dktL_law_9 : List UInt8 := dkwL_law_9 ++ dktL_law_10
def dkwL_law_8 : List UInt8 := [46, 42, 29, 6, 96, 46, 42, 29, 7, 96, 46, 42, 29, 8, 96, 46, 182, 0, 27, 44, 42, 29, 4, 96]
abbrev dktL_law_8 : List UInt8 := dkwL_law_8 ++ dktL_law_9
def dkwL_law_7 : List UInt8 := [46, 42, 29, 5, 96, 46, 182, 0, 26, 159, 4, 125, 3, 172, 43, 42, 29, 4, 96, 46, 42, 29, 5, 96]
abbrev dktL_law_7 : List UInt8 := dkwL_law_7 ++ dktL_law_8
def dkwL_law_6 : List UInt8 := [159, 4, 158, 3, 172, 43, 42, 29, 4, 96, 46, 42, 29, 5, 96, 46, 182, 0, 23, 44, 42, 29, 4, 96]
abbrev dktL_law_6 : List UInt8 := dkwL_law_6 ++ dktL_law_7
def dkwL_law_5 : List UInt8 := [46, 42, 29, 5, 96, 46, 182, 0, 18, 44, 42, 29, 4, 96, 46, 42, 29, 5, 96, 46, 182, 0, 22]
abbrev dktL_law_5 : List UInt8 := dkwL_law_5 ++ dktL_law_6
def dkwL_law_4 : List UInt8 := [46, 42, 29, 5, 96, 46, 42, 29, 6, 96, 46, 182, 0, 17, 159, 4, 191, 3, 172, 43, 42, 29, 4, 96]
abbrev dktL_law_4 : List UInt8 := dkwL_law_4 ++ dktL_law_5
def dkwL_law_3 : List UInt8 := [43, 42, 29, 4, 96, 46, 42, 29, 5, 96, 46, 42, 29, 6, 96, 46, 182, 0, 13, 44, 42, 29, 4, 96]
abbrev dktL_law_3 : List UInt8 := dkwL_law_3 ++ dktL_law_4
def dkwL_law_2 : List UInt8 := [170, 0, 0, 0, 0, 5, 132, 0, 0, 0, 0, 0, 0, 0, 35, 0, 0, 0, 159, 0, 0, 0, 202, 0, 0, 0, 235, 0, 0, 1, 12, 0, 0, 1, 75, 0, 0, 1, 108, 0, 0, 1, 141, 0, 0, 1, 174, 0, 0, 1, 197, 0, 0, 1, 250, 0, 0, 2, 85, 0, 0, 2, 108, 0, 0, 2, 167, 0, 0, 2, 216, 0, 0, 3, 9, 0, 0, 3, 68, 0, 0, 3, 91, 0, 0, 3, 124, 0, 0, 3, 147, 0, 0, 3, 160, 0, 0, 3, 193, 0, 0, 3, 236, 0, 0, 4, 13, 0, 0, 4, 46, 0, 0, 4, 79, 0, 0, 4, 102, 0, 0, 4, 135, 0, 0, 4, 168, 0, 0, 4, 201, 0, 0, 4, 224, 0, 0, 5, 31, 0, 0, 5, 45, 0, 0, 5, 59, 0, 0, 5, 82, 0, 0, 5, 95, 0, 0, 5, 118]
abbrev dktL_law_2 : List UInt8 := dkwL_law_2 ++ dktL_law_3
def dkwL_law_1 : List UInt8 := [163, 5, 147, 42, 29, 46, 16, 63, 126]
abbrev dktL_law_1 : List UInt8 := dkwL_law_1 ++ dktL_law_2
def dkwL_law_0 : List UInt8 := [187, 0, 7, 89, 183, 0, 9, 76, 187, 0, 10, 89, 183, 0, 12, 77, 3, 62, 29, 42, 190, 16, 7, 100]
abbrev dktL_law_0 : List UInt8 := dkwL_law_0 ++ dktL_law_1
theorem dksL_law_0 : cL_law.data.toList.drop 0 = dktL_law_0 := by decide +kernel
theorem dksL_law_1 : cL_law.data.toList.drop 24 = dktL_law_1 := dk_seg dksL_law_0 24 rfl rfl
theorem dksL_law_2 : cL_law.data.toList.drop 33 = dktL_law_2 := dk_seg dksL_law_1 9 rfl rfl
theorem dksL_law_3 : cL_law.data.toList.drop 192 = dktL_law_3 := dk_seg dksL_law_2 159 rfl rfl
theorem dksL_law_4 : cL_law.data.toList.drop 216 = dktL_law_4 := dk_seg dksL_law_3 24 rfl rfl
theorem dksL_law_5 : cL_law.data.toList.drop 240 = dktL_law_5 := dk_seg dksL_law_4 24 rfl rfl
theorem dksL_law_6 : cL_law.data.toList.drop 263 = dktL_law_6 := dk_seg dksL_law_5 23 rfl rfl
theorem dksL_law_7 : cL_law.data.toList.drop 287 = dktL_law_7 := dk_seg dksL_law_6 24 rfl rfl
theorem dksL_law_8 : cL_law.data.toList.drop 311 = dktL_law_8 := dk_seg dksL_law_7 24 rfl rfl
theorem dksL_law_9 : cL_law.data.toList.drop 335 = dktL_law_9 := dk_seg dksL_law_8 24 rfl rfl
theorem dksL_law_10 : cL_law.data.toList.drop 359 = dktL_law_10 := dk_seg dksL_law_9 24 rfl rfl
theorem dksL_law_11 : cL_law.data.toList.drop 383 = dktL_law_11 := dk_seg dksL_law_10 24 rfl rfl
theorem dksL_law_12 : cL_law.data.toList.drop 407 = dktL_law_12 := dk_seg dksL_law_11 24 rfl rfl
theorem dksL_law_13 : cL_law.data.toList.drop 431 = dktL_law_13 := dk_seg dksL_law_12 24 rfl rfl
theorem dksL_law_14 : cL_law.data.toList.drop 455 = dktL_law_14 := dk_seg dksL_law_13 24 rfl rfl
theorem dksL_law_15 : cL_law.data.toList.drop 478 = dktL_law_15 := dk_seg dksL_law_14 23 rfl rfl
theorem dksL_law_16 : cL_law.data.toList.drop 502 = dktL_law_16 := dk_seg dksL_law_15 24 rfl rfl
theorem dksL_law_17 : cL_law.data.toList.drop 526 = dktL_law_17 := dk_seg dksL_law_16 24 rfl rfl
theorem dksL_law_18 : cL_law.data.toList.drop 550 = dktL_law_18 := dk_seg dksL_law_17 24 rfl rfl
theorem dksL_law_19 : cL_law.data.toList.drop 574 = dktL_law_19 := dk_seg dksL_law_18 24 rfl rfl
theorem dksL_law_20 : cL_law.data.toList.drop 598 = dktL_law_20 := dk_seg dksL_law_19 24 rfl rfl
theorem dksL_law_21 : cL_law.data.toList.drop 622 = dktL_law_21 := dk_seg dksL_law_20 24 rfl rfl
theorem dksL_law_22 : cL_law.data.toList.drop 645 = dktL_law_22 := dk_seg dksL_law_21 23 rfl rfl
theorem dksL_law_23 : cL_law.data.toList.drop 669 = dktL_law_23 := dk_seg dksL_law_22 24 rfl rfl
theorem dksL_law_24 : cL_law.data.toList.drop 693 = dktL_law_24 := dk_seg dksL_law_23 24 rfl rfl
theorem dksL_law_25 : cL_law.data.toList.drop 717 = dktL_law_25 := dk_seg dksL_law_24 24 rfl rfl
theorem dksL_law_26 : cL_law.data.toList.drop 741 = dktL_law_26 := dk_seg dksL_law_25 24 rfl rfl
theorem dksL_law_27 : cL_law.data.toList.drop 765 = dktL_law_27 := dk_seg dksL_law_26 24 rfl rfl
theorem dksL_law_28 : cL_law.data.toList.drop 789 = dktL_law_28 := dk_seg dksL_law_27 24 rfl rfl
theorem dksL_law_29 : cL_law.data.toList.drop 813 = dktL_law_29 := dk_seg dksL_law_28 24 rfl rfl
theorem dksL_law_30 : cL_law.data.toList.drop 837 = dktL_law_30 := dk_seg dksL_law_29 24 rfl rfl
theorem dksL_law_31 : cL_law.data.toList.drop 861 = dktL_law_31 := dk_seg dksL_law_30 24 rfl rfl
theorem dksL_law_32 : cL_law.data.toList.drop 884 = dktL_law_32 := dk_seg dksL_law_31 23 rfl rfl
theorem dksL_law_33 : cL_law.data.toList.drop 908 = dktL_law_33 := dk_seg dksL_law_32 24 rfl rfl
theorem dksL_law_34 : cL_law.data.toList.drop 931 = dktL_law_34 := dk_seg dksL_law_33 23 rfl rfl
theorem dksL_law_35 : cL_law.data.toList.drop 953 = dktL_law_35 := dk_seg dksL_law_34 22 rfl rfl
theorem dksL_law_36 : cL_law.data.toList.drop 977 = dktL_law_36 := dk_seg dksL_law_35 24 rfl rfl
theorem dksL_law_37 : cL_law.data.toList.drop 1001 = dktL_law_37 := dk_seg dksL_law_36 24 rfl rfl
theorem dksL_law_38 : cL_law.data.toList.drop 1025 = dktL_law_38 := dk_seg dksL_law_37 24 rfl rfl
theorem dksL_law_39 : cL_law.data.toList.drop 1048 = dktL_law_39 := dk_seg dksL_law_38 23 rfl rfl
theorem dksL_law_40 : cL_law.data.toList.drop 1072 = dktL_law_40 := dk_seg dksL_law_39 24 rfl rfl
theorem dksL_law_41 : cL_law.data.toList.drop 1095 = dktL_law_41 := dk_seg dksL_law_40 23 rfl rfl
theorem dksL_law_42 : cL_law.data.toList.drop 1119 = dktL_law_42 := dk_seg dksL_law_41 24 rfl rfl
theorem dksL_law_43 : cL_law.data.toList.drop 1142 = dktL_law_43 := dk_seg dksL_law_42 23 rfl rfl
theorem dksL_law_44 : cL_law.data.toList.drop 1166 = dktL_law_44 := dk_seg dksL_law_43 24 rfl rfl
theorem dksL_law_45 : cL_law.data.toList.drop 1190 = dktL_law_45 := dk_seg dksL_law_44 24 rfl rfl
theorem dksL_law_46 : cL_law.data.toList.drop 1214 = dktL_law_46 := dk_seg dksL_law_45 24 rfl rfl
theorem dksL_law_47 : cL_law.data.toList.drop 1236 = dktL_law_47 := dk_seg dksL_law_46 22 rfl rfl
theorem dksL_law_48 : cL_law.data.toList.drop 1260 = dktL_law_48 := dk_seg dksL_law_47 24 rfl rfl
theorem dksL_law_49 : cL_law.data.toList.drop 1284 = dktL_law_49 := dk_seg dksL_law_48 24 rfl rfl
theorem dksL_law_50 : cL_law.data.toList.drop 1307 = dktL_law_50 := dk_seg dksL_law_49 23 rfl rfl
theorem dksL_law_51 : cL_law.data.toList.drop 1331 = dktL_law_51 := dk_seg dksL_law_50 24 rfl rfl
theorem dksL_law_52 : cL_law.data.toList.drop 1353 = dktL_law_52 := dk_seg dksL_law_51 22 rfl rfl
theorem dksL_law_53 : cL_law.data.toList.drop 1377 = dktL_law_53 := dk_seg dksL_law_52 24 rfl rfl
theorem dksL_law_54 : cL_law.data.toList.drop 1400 = dktL_law_54 := dk_seg dksL_law_53 23 rfl rfl
theorem dksL_law_55 : cL_law.data.toList.drop 1423 = dktL_law_55 := dk_seg dksL_law_54 23 rfl rfl
theorem dksL_law_56 : cL_law.data.toList.drop 1445 = dktL_law_56 := dk_seg dksL_law_55 22 rfl rfl
theorem dL_law_0 : decode cL_law 0 = .ok (.new 7, 3) := dk_187 0 7 (dk_at dksL_law_0 0 rfl rfl)
theorem dL_law_3 : decode cL_law 3 = .ok (.dup, 1) := dk_89 (dk_at dksL_law_0 3 rfl rfl)
theorem dL_law_4 : decode cL_law 4 = .ok (.invokespecial 9, 3) := dk_183 0 9 (dk_at dksL_law_0 4 rfl rfl)
theorem dL_law_7 : decode cL_law 7 = .ok (.astore_n 1, 1) := dk_76 (dk_at dksL_law_0 7 rfl rfl)
theorem dL_law_8 : decode cL_law 8 = .ok (.new 10, 3) := dk_187 0 10 (dk_at dksL_law_0 8 rfl rfl)
theorem dL_law_11 : decode cL_law 11 = .ok (.dup, 1) := dk_89 (dk_at dksL_law_0 11 rfl rfl)
theorem dL_law_12 : decode cL_law 12 = .ok (.invokespecial 12, 3) := dk_183 0 12 (dk_at dksL_law_0 12 rfl rfl)
theorem dL_law_15 : decode cL_law 15 = .ok (.astore_n 2, 1) := dk_77 (dk_at dksL_law_0 15 rfl rfl)
theorem dL_law_16 : decode cL_law 16 = .ok (.iconst 0, 1) := dk_3 (dk_at dksL_law_0 16 rfl rfl)
theorem dL_law_17 : decode cL_law 17 = .ok (.istore_n 3, 1) := dk_62 (dk_at dksL_law_0 17 rfl rfl)
theorem dL_law_18 : decode cL_law 18 = .ok (.iload_n 3, 1) := dk_29 (dk_at dksL_law_0 18 rfl rfl)
theorem dL_law_19 : decode cL_law 19 = .ok (.aload_n 0, 1) := dk_42 (dk_at dksL_law_0 19 rfl rfl)
theorem dL_law_20 : decode cL_law 20 = .ok (.arraylength, 1) := dk_190 (dk_at dksL_law_0 20 rfl rfl)
theorem dL_law_21 : decode cL_law 21 = .ok (.bipush 7, 2) := dk_16 7 (dk_at dksL_law_0 21 rfl rfl)
theorem dL_law_23 : decode cL_law 23 = .ok (.isub, 1) := dk_100 (dk_at dksL_law_0 23 rfl rfl)
theorem dL_law_24 : decode cL_law 24 = .ok (.if_icmp .gt 1427, 3) := dk_163 5 147 (dk_at dksL_law_1 0 rfl rfl)
theorem dL_law_27 : decode cL_law 27 = .ok (.aload_n 0, 1) := dk_42 (dk_at dksL_law_1 3 rfl rfl)
theorem dL_law_28 : decode cL_law 28 = .ok (.iload_n 3, 1) := dk_29 (dk_at dksL_law_1 4 rfl rfl)
theorem dL_law_29 : decode cL_law 29 = .ok (.iaload, 1) := dk_46 (dk_at dksL_law_1 5 rfl rfl)
theorem dL_law_30 : decode cL_law 30 = .ok (.bipush 63, 2) := dk_16 63 (dk_at dksL_law_1 6 rfl rfl)
theorem dL_law_32 : decode cL_law 32 = .ok (.iand, 1) := dk_126 (dk_at dksL_law_1 8 rfl rfl)
theorem dL_law_33 : decode cL_law 33 = .ok (.tableswitch 1412 0 35 #[159, 202, 235, 268, 331, 364, 397, 430, 453, 506, 597, 620, 679, 728, 777, 836, 859, 892, 915, 928, 961, 1004, 1037, 1070, 1103, 1126, 1159, 1192, 1225, 1248, 1311, 1325, 1339, 1362, 1375, 1398], 159) := by decide +kernel
theorem dL_law_192 : decode cL_law 192 = .ok (.aload_n 1, 1) := dk_43 (dk_at dksL_law_3 0 rfl rfl)
theorem dL_law_193 : decode cL_law 193 = .ok (.aload_n 0, 1) := dk_42 (dk_at dksL_law_3 1 rfl rfl)
theorem dL_law_194 : decode cL_law 194 = .ok (.iload_n 3, 1) := dk_29 (dk_at dksL_law_3 2 rfl rfl)
theorem dL_law_195 : decode cL_law 195 = .ok (.iconst 1, 1) := dk_4 (dk_at dksL_law_3 3 rfl rfl)
theorem dL_law_196 : decode cL_law 196 = .ok (.iadd, 1) := dk_96 (dk_at dksL_law_3 4 rfl rfl)
theorem dL_law_197 : decode cL_law 197 = .ok (.iaload, 1) := dk_46 (dk_at dksL_law_3 5 rfl rfl)
theorem dL_law_198 : decode cL_law 198 = .ok (.aload_n 0, 1) := dk_42 (dk_at dksL_law_3 6 rfl rfl)
theorem dL_law_199 : decode cL_law 199 = .ok (.iload_n 3, 1) := dk_29 (dk_at dksL_law_3 7 rfl rfl)
theorem dL_law_200 : decode cL_law 200 = .ok (.iconst 2, 1) := dk_5 (dk_at dksL_law_3 8 rfl rfl)
theorem dL_law_201 : decode cL_law 201 = .ok (.iadd, 1) := dk_96 (dk_at dksL_law_3 9 rfl rfl)
theorem dL_law_202 : decode cL_law 202 = .ok (.iaload, 1) := dk_46 (dk_at dksL_law_3 10 rfl rfl)
theorem dL_law_203 : decode cL_law 203 = .ok (.aload_n 0, 1) := dk_42 (dk_at dksL_law_3 11 rfl rfl)
theorem dL_law_204 : decode cL_law 204 = .ok (.iload_n 3, 1) := dk_29 (dk_at dksL_law_3 12 rfl rfl)
theorem dL_law_205 : decode cL_law 205 = .ok (.iconst 3, 1) := dk_6 (dk_at dksL_law_3 13 rfl rfl)
theorem dL_law_206 : decode cL_law 206 = .ok (.iadd, 1) := dk_96 (dk_at dksL_law_3 14 rfl rfl)
theorem dL_law_207 : decode cL_law 207 = .ok (.iaload, 1) := dk_46 (dk_at dksL_law_3 15 rfl rfl)
theorem dL_law_208 : decode cL_law 208 = .ok (.invokevirtual 13, 3) := dk_182 0 13 (dk_at dksL_law_3 16 rfl rfl)
theorem dL_law_211 : decode cL_law 211 = .ok (.aload_n 2, 1) := dk_44 (dk_at dksL_law_3 19 rfl rfl)
theorem dL_law_212 : decode cL_law 212 = .ok (.aload_n 0, 1) := dk_42 (dk_at dksL_law_3 20 rfl rfl)
theorem dL_law_213 : decode cL_law 213 = .ok (.iload_n 3, 1) := dk_29 (dk_at dksL_law_3 21 rfl rfl)
theorem dL_law_214 : decode cL_law 214 = .ok (.iconst 1, 1) := dk_4 (dk_at dksL_law_3 22 rfl rfl)
theorem dL_law_215 : decode cL_law 215 = .ok (.iadd, 1) := dk_96 (dk_at dksL_law_3 23 rfl rfl)
theorem dL_law_216 : decode cL_law 216 = .ok (.iaload, 1) := dk_46 (dk_at dksL_law_4 0 rfl rfl)
theorem dL_law_217 : decode cL_law 217 = .ok (.aload_n 0, 1) := dk_42 (dk_at dksL_law_4 1 rfl rfl)
theorem dL_law_218 : decode cL_law 218 = .ok (.iload_n 3, 1) := dk_29 (dk_at dksL_law_4 2 rfl rfl)
theorem dL_law_219 : decode cL_law 219 = .ok (.iconst 2, 1) := dk_5 (dk_at dksL_law_4 3 rfl rfl)
theorem dL_law_220 : decode cL_law 220 = .ok (.iadd, 1) := dk_96 (dk_at dksL_law_4 4 rfl rfl)
theorem dL_law_221 : decode cL_law 221 = .ok (.iaload, 1) := dk_46 (dk_at dksL_law_4 5 rfl rfl)
theorem dL_law_222 : decode cL_law 222 = .ok (.aload_n 0, 1) := dk_42 (dk_at dksL_law_4 6 rfl rfl)
theorem dL_law_223 : decode cL_law 223 = .ok (.iload_n 3, 1) := dk_29 (dk_at dksL_law_4 7 rfl rfl)
theorem dL_law_224 : decode cL_law 224 = .ok (.iconst 3, 1) := dk_6 (dk_at dksL_law_4 8 rfl rfl)
theorem dL_law_225 : decode cL_law 225 = .ok (.iadd, 1) := dk_96 (dk_at dksL_law_4 9 rfl rfl)
theorem dL_law_226 : decode cL_law 226 = .ok (.iaload, 1) := dk_46 (dk_at dksL_law_4 10 rfl rfl)
theorem dL_law_227 : decode cL_law 227 = .ok (.invokevirtual 17, 3) := dk_182 0 17 (dk_at dksL_law_4 11 rfl rfl)
theorem dL_law_230 : decode cL_law 230 = .ok (.if_icmp .eq 1215, 3) := dk_159 4 191 (dk_at dksL_law_4 14 rfl rfl)
theorem dL_law_233 : decode cL_law 233 = .ok (.iconst 0, 1) := dk_3 (dk_at dksL_law_4 17 rfl rfl)
theorem dL_law_234 : decode cL_law 234 = .ok (.ireturn, 1) := dk_172 (dk_at dksL_law_4 18 rfl rfl)
theorem dL_law_235 : decode cL_law 235 = .ok (.aload_n 1, 1) := dk_43 (dk_at dksL_law_4 19 rfl rfl)
theorem dL_law_236 : decode cL_law 236 = .ok (.aload_n 0, 1) := dk_42 (dk_at dksL_law_4 20 rfl rfl)
theorem dL_law_237 : decode cL_law 237 = .ok (.iload_n 3, 1) := dk_29 (dk_at dksL_law_4 21 rfl rfl)
theorem dL_law_238 : decode cL_law 238 = .ok (.iconst 1, 1) := dk_4 (dk_at dksL_law_4 22 rfl rfl)
theorem dL_law_239 : decode cL_law 239 = .ok (.iadd, 1) := dk_96 (dk_at dksL_law_4 23 rfl rfl)
theorem dL_law_240 : decode cL_law 240 = .ok (.iaload, 1) := dk_46 (dk_at dksL_law_5 0 rfl rfl)
theorem dL_law_241 : decode cL_law 241 = .ok (.aload_n 0, 1) := dk_42 (dk_at dksL_law_5 1 rfl rfl)
theorem dL_law_242 : decode cL_law 242 = .ok (.iload_n 3, 1) := dk_29 (dk_at dksL_law_5 2 rfl rfl)
theorem dL_law_243 : decode cL_law 243 = .ok (.iconst 2, 1) := dk_5 (dk_at dksL_law_5 3 rfl rfl)
theorem dL_law_244 : decode cL_law 244 = .ok (.iadd, 1) := dk_96 (dk_at dksL_law_5 4 rfl rfl)
theorem dL_law_245 : decode cL_law 245 = .ok (.iaload, 1) := dk_46 (dk_at dksL_law_5 5 rfl rfl)
theorem dL_law_246 : decode cL_law 246 = .ok (.invokevirtual 18, 3) := dk_182 0 18 (dk_at dksL_law_5 6 rfl rfl)
theorem dL_law_249 : decode cL_law 249 = .ok (.aload_n 2, 1) := dk_44 (dk_at dksL_law_5 9 rfl rfl)
theorem dL_law_250 : decode cL_law 250 = .ok (.aload_n 0, 1) := dk_42 (dk_at dksL_law_5 10 rfl rfl)
theorem dL_law_251 : decode cL_law 251 = .ok (.iload_n 3, 1) := dk_29 (dk_at dksL_law_5 11 rfl rfl)
theorem dL_law_252 : decode cL_law 252 = .ok (.iconst 1, 1) := dk_4 (dk_at dksL_law_5 12 rfl rfl)
theorem dL_law_253 : decode cL_law 253 = .ok (.iadd, 1) := dk_96 (dk_at dksL_law_5 13 rfl rfl)
theorem dL_law_254 : decode cL_law 254 = .ok (.iaload, 1) := dk_46 (dk_at dksL_law_5 14 rfl rfl)
theorem dL_law_255 : decode cL_law 255 = .ok (.aload_n 0, 1) := dk_42 (dk_at dksL_law_5 15 rfl rfl)
theorem dL_law_256 : decode cL_law 256 = .ok (.iload_n 3, 1) := dk_29 (dk_at dksL_law_5 16 rfl rfl)
theorem dL_law_257 : decode cL_law 257 = .ok (.iconst 2, 1) := dk_5 (dk_at dksL_law_5 17 rfl rfl)
theorem dL_law_258 : decode cL_law 258 = .ok (.iadd, 1) := dk_96 (dk_at dksL_law_5 18 rfl rfl)
theorem dL_law_259 : decode cL_law 259 = .ok (.iaload, 1) := dk_46 (dk_at dksL_law_5 19 rfl rfl)
theorem dL_law_260 : decode cL_law 260 = .ok (.invokevirtual 22, 3) := dk_182 0 22 (dk_at dksL_law_5 20 rfl rfl)
theorem dL_law_263 : decode cL_law 263 = .ok (.if_icmp .eq 1182, 3) := dk_159 4 158 (dk_at dksL_law_6 0 rfl rfl)
theorem dL_law_266 : decode cL_law 266 = .ok (.iconst 0, 1) := dk_3 (dk_at dksL_law_6 3 rfl rfl)
theorem dL_law_267 : decode cL_law 267 = .ok (.ireturn, 1) := dk_172 (dk_at dksL_law_6 4 rfl rfl)
theorem dL_law_268 : decode cL_law 268 = .ok (.aload_n 1, 1) := dk_43 (dk_at dksL_law_6 5 rfl rfl)
theorem dL_law_269 : decode cL_law 269 = .ok (.aload_n 0, 1) := dk_42 (dk_at dksL_law_6 6 rfl rfl)
theorem dL_law_270 : decode cL_law 270 = .ok (.iload_n 3, 1) := dk_29 (dk_at dksL_law_6 7 rfl rfl)
theorem dL_law_271 : decode cL_law 271 = .ok (.iconst 1, 1) := dk_4 (dk_at dksL_law_6 8 rfl rfl)
theorem dL_law_272 : decode cL_law 272 = .ok (.iadd, 1) := dk_96 (dk_at dksL_law_6 9 rfl rfl)
theorem dL_law_273 : decode cL_law 273 = .ok (.iaload, 1) := dk_46 (dk_at dksL_law_6 10 rfl rfl)
theorem dL_law_274 : decode cL_law 274 = .ok (.aload_n 0, 1) := dk_42 (dk_at dksL_law_6 11 rfl rfl)
theorem dL_law_275 : decode cL_law 275 = .ok (.iload_n 3, 1) := dk_29 (dk_at dksL_law_6 12 rfl rfl)
theorem dL_law_276 : decode cL_law 276 = .ok (.iconst 2, 1) := dk_5 (dk_at dksL_law_6 13 rfl rfl)
theorem dL_law_277 : decode cL_law 277 = .ok (.iadd, 1) := dk_96 (dk_at dksL_law_6 14 rfl rfl)
theorem dL_law_278 : decode cL_law 278 = .ok (.iaload, 1) := dk_46 (dk_at dksL_law_6 15 rfl rfl)
theorem dL_law_279 : decode cL_law 279 = .ok (.invokevirtual 23, 3) := dk_182 0 23 (dk_at dksL_law_6 16 rfl rfl)
theorem dL_law_282 : decode cL_law 282 = .ok (.aload_n 2, 1) := dk_44 (dk_at dksL_law_6 19 rfl rfl)
theorem dL_law_283 : decode cL_law 283 = .ok (.aload_n 0, 1) := dk_42 (dk_at dksL_law_6 20 rfl rfl)
theorem dL_law_284 : decode cL_law 284 = .ok (.iload_n 3, 1) := dk_29 (dk_at dksL_law_6 21 rfl rfl)
theorem dL_law_285 : decode cL_law 285 = .ok (.iconst 1, 1) := dk_4 (dk_at dksL_law_6 22 rfl rfl)
theorem dL_law_286 : decode cL_law 286 = .ok (.iadd, 1) := dk_96 (dk_at dksL_law_6 23 rfl rfl)
theorem dL_law_287 : decode cL_law 287 = .ok (.iaload, 1) := dk_46 (dk_at dksL_law_7 0 rfl rfl)
theorem dL_law_288 : decode cL_law 288 = .ok (.aload_n 0, 1) := dk_42 (dk_at dksL_law_7 1 rfl rfl)
theorem dL_law_289 : decode cL_law 289 = .ok (.iload_n 3, 1) := dk_29 (dk_at dksL_law_7 2 rfl rfl)
theorem dL_law_290 : decode cL_law 290 = .ok (.iconst 2, 1) := dk_5 (dk_at dksL_law_7 3 rfl rfl)
theorem dL_law_291 : decode cL_law 291 = .ok (.iadd, 1) := dk_96 (dk_at dksL_law_7 4 rfl rfl)
theorem dL_law_292 : decode cL_law 292 = .ok (.iaload, 1) := dk_46 (dk_at dksL_law_7 5 rfl rfl)
theorem dL_law_293 : decode cL_law 293 = .ok (.invokevirtual 26, 3) := dk_182 0 26 (dk_at dksL_law_7 6 rfl rfl)
theorem dL_law_296 : decode cL_law 296 = .ok (.if_icmp .eq 1149, 3) := dk_159 4 125 (dk_at dksL_law_7 9 rfl rfl)
theorem dL_law_299 : decode cL_law 299 = .ok (.iconst 0, 1) := dk_3 (dk_at dksL_law_7 12 rfl rfl)
theorem dL_law_300 : decode cL_law 300 = .ok (.ireturn, 1) := dk_172 (dk_at dksL_law_7 13 rfl rfl)
theorem dL_law_301 : decode cL_law 301 = .ok (.aload_n 1, 1) := dk_43 (dk_at dksL_law_7 14 rfl rfl)
theorem dL_law_302 : decode cL_law 302 = .ok (.aload_n 0, 1) := dk_42 (dk_at dksL_law_7 15 rfl rfl)
theorem dL_law_303 : decode cL_law 303 = .ok (.iload_n 3, 1) := dk_29 (dk_at dksL_law_7 16 rfl rfl)
theorem dL_law_304 : decode cL_law 304 = .ok (.iconst 1, 1) := dk_4 (dk_at dksL_law_7 17 rfl rfl)
theorem dL_law_305 : decode cL_law 305 = .ok (.iadd, 1) := dk_96 (dk_at dksL_law_7 18 rfl rfl)
theorem dL_law_306 : decode cL_law 306 = .ok (.iaload, 1) := dk_46 (dk_at dksL_law_7 19 rfl rfl)
theorem dL_law_307 : decode cL_law 307 = .ok (.aload_n 0, 1) := dk_42 (dk_at dksL_law_7 20 rfl rfl)
theorem dL_law_308 : decode cL_law 308 = .ok (.iload_n 3, 1) := dk_29 (dk_at dksL_law_7 21 rfl rfl)
theorem dL_law_309 : decode cL_law 309 = .ok (.iconst 2, 1) := dk_5 (dk_at dksL_law_7 22 rfl rfl)
theorem dL_law_310 : decode cL_law 310 = .ok (.iadd, 1) := dk_96 (dk_at dksL_law_7 23 rfl rfl)
theorem dL_law_311 : decode cL_law 311 = .ok (.iaload, 1) := dk_46 (dk_at dksL_law_8 0 rfl rfl)
theorem dL_law_312 : decode cL_law 312 = .ok (.aload_n 0, 1) := dk_42 (dk_at dksL_law_8 1 rfl rfl)
theorem dL_law_313 : decode cL_law 313 = .ok (.iload_n 3, 1) := dk_29 (dk_at dksL_law_8 2 rfl rfl)
theorem dL_law_314 : decode cL_law 314 = .ok (.iconst 3, 1) := dk_6 (dk_at dksL_law_8 3 rfl rfl)
theorem dL_law_315 : decode cL_law 315 = .ok (.iadd, 1) := dk_96 (dk_at dksL_law_8 4 rfl rfl)
theorem dL_law_316 : decode cL_law 316 = .ok (.iaload, 1) := dk_46 (dk_at dksL_law_8 5 rfl rfl)
theorem dL_law_317 : decode cL_law 317 = .ok (.aload_n 0, 1) := dk_42 (dk_at dksL_law_8 6 rfl rfl)
theorem dL_law_318 : decode cL_law 318 = .ok (.iload_n 3, 1) := dk_29 (dk_at dksL_law_8 7 rfl rfl)
theorem dL_law_319 : decode cL_law 319 = .ok (.iconst 4, 1) := dk_7 (dk_at dksL_law_8 8 rfl rfl)
theorem dL_law_320 : decode cL_law 320 = .ok (.iadd, 1) := dk_96 (dk_at dksL_law_8 9 rfl rfl)
theorem dL_law_321 : decode cL_law 321 = .ok (.iaload, 1) := dk_46 (dk_at dksL_law_8 10 rfl rfl)
theorem dL_law_322 : decode cL_law 322 = .ok (.aload_n 0, 1) := dk_42 (dk_at dksL_law_8 11 rfl rfl)
theorem dL_law_323 : decode cL_law 323 = .ok (.iload_n 3, 1) := dk_29 (dk_at dksL_law_8 12 rfl rfl)
theorem dL_law_324 : decode cL_law 324 = .ok (.iconst 5, 1) := dk_8 (dk_at dksL_law_8 13 rfl rfl)
theorem dL_law_325 : decode cL_law 325 = .ok (.iadd, 1) := dk_96 (dk_at dksL_law_8 14 rfl rfl)
theorem dL_law_326 : decode cL_law 326 = .ok (.iaload, 1) := dk_46 (dk_at dksL_law_8 15 rfl rfl)
theorem dL_law_327 : decode cL_law 327 = .ok (.invokevirtual 27, 3) := dk_182 0 27 (dk_at dksL_law_8 16 rfl rfl)
theorem dL_law_330 : decode cL_law 330 = .ok (.aload_n 2, 1) := dk_44 (dk_at dksL_law_8 19 rfl rfl)
theorem dL_law_331 : decode cL_law 331 = .ok (.aload_n 0, 1) := dk_42 (dk_at dksL_law_8 20 rfl rfl)
theorem dL_law_332 : decode cL_law 332 = .ok (.iload_n 3, 1) := dk_29 (dk_at dksL_law_8 21 rfl rfl)
theorem dL_law_333 : decode cL_law 333 = .ok (.iconst 1, 1) := dk_4 (dk_at dksL_law_8 22 rfl rfl)
theorem dL_law_334 : decode cL_law 334 = .ok (.iadd, 1) := dk_96 (dk_at dksL_law_8 23 rfl rfl)
theorem dL_law_335 : decode cL_law 335 = .ok (.iaload, 1) := dk_46 (dk_at dksL_law_9 0 rfl rfl)
theorem dL_law_336 : decode cL_law 336 = .ok (.aload_n 0, 1) := dk_42 (dk_at dksL_law_9 1 rfl rfl)
theorem dL_law_337 : decode cL_law 337 = .ok (.iload_n 3, 1) := dk_29 (dk_at dksL_law_9 2 rfl rfl)
theorem dL_law_338 : decode cL_law 338 = .ok (.iconst 2, 1) := dk_5 (dk_at dksL_law_9 3 rfl rfl)
theorem dL_law_339 : decode cL_law 339 = .ok (.iadd, 1) := dk_96 (dk_at dksL_law_9 4 rfl rfl)
theorem dL_law_340 : decode cL_law 340 = .ok (.iaload, 1) := dk_46 (dk_at dksL_law_9 5 rfl rfl)
theorem dL_law_341 : decode cL_law 341 = .ok (.aload_n 0, 1) := dk_42 (dk_at dksL_law_9 6 rfl rfl)
theorem dL_law_342 : decode cL_law 342 = .ok (.iload_n 3, 1) := dk_29 (dk_at dksL_law_9 7 rfl rfl)
theorem dL_law_343 : decode cL_law 343 = .ok (.iconst 3, 1) := dk_6 (dk_at dksL_law_9 8 rfl rfl)
theorem dL_law_344 : decode cL_law 344 = .ok (.iadd, 1) := dk_96 (dk_at dksL_law_9 9 rfl rfl)
theorem dL_law_345 : decode cL_law 345 = .ok (.iaload, 1) := dk_46 (dk_at dksL_law_9 10 rfl rfl)
theorem dL_law_346 : decode cL_law 346 = .ok (.aload_n 0, 1) := dk_42 (dk_at dksL_law_9 11 rfl rfl)
theorem dL_law_347 : decode cL_law 347 = .ok (.iload_n 3, 1) := dk_29 (dk_at dksL_law_9 12 rfl rfl)
theorem dL_law_348 : decode cL_law 348 = .ok (.iconst 4, 1) := dk_7 (dk_at dksL_law_9 13 rfl rfl)
theorem dL_law_349 : decode cL_law 349 = .ok (.iadd, 1) := dk_96 (dk_at dksL_law_9 14 rfl rfl)
theorem dL_law_350 : decode cL_law 350 = .ok (.iaload, 1) := dk_46 (dk_at dksL_law_9 15 rfl rfl)
theorem dL_law_351 : decode cL_law 351 = .ok (.aload_n 0, 1) := dk_42 (dk_at dksL_law_9 16 rfl rfl)
theorem dL_law_352 : decode cL_law 352 = .ok (.iload_n 3, 1) := dk_29 (dk_at dksL_law_9 17 rfl rfl)
theorem dL_law_353 : decode cL_law 353 = .ok (.iconst 5, 1) := dk_8 (dk_at dksL_law_9 18 rfl rfl)
theorem dL_law_354 : decode cL_law 354 = .ok (.iadd, 1) := dk_96 (dk_at dksL_law_9 19 rfl rfl)
theorem dL_law_355 : decode cL_law 355 = .ok (.iaload, 1) := dk_46 (dk_at dksL_law_9 20 rfl rfl)
theorem dL_law_356 : decode cL_law 356 = .ok (.invokevirtual 31, 3) := dk_182 0 31 (dk_at dksL_law_9 21 rfl rfl)
theorem dL_law_359 : decode cL_law 359 = .ok (.if_icmp .eq 1086, 3) := dk_159 4 62 (dk_at dksL_law_10 0 rfl rfl)
theorem dL_law_362 : decode cL_law 362 = .ok (.iconst 0, 1) := dk_3 (dk_at dksL_law_10 3 rfl rfl)
theorem dL_law_363 : decode cL_law 363 = .ok (.ireturn, 1) := dk_172 (dk_at dksL_law_10 4 rfl rfl)
theorem dL_law_364 : decode cL_law 364 = .ok (.aload_n 1, 1) := dk_43 (dk_at dksL_law_10 5 rfl rfl)
theorem dL_law_365 : decode cL_law 365 = .ok (.aload_n 0, 1) := dk_42 (dk_at dksL_law_10 6 rfl rfl)
theorem dL_law_366 : decode cL_law 366 = .ok (.iload_n 3, 1) := dk_29 (dk_at dksL_law_10 7 rfl rfl)
theorem dL_law_367 : decode cL_law 367 = .ok (.iconst 1, 1) := dk_4 (dk_at dksL_law_10 8 rfl rfl)
theorem dL_law_368 : decode cL_law 368 = .ok (.iadd, 1) := dk_96 (dk_at dksL_law_10 9 rfl rfl)
theorem dL_law_369 : decode cL_law 369 = .ok (.iaload, 1) := dk_46 (dk_at dksL_law_10 10 rfl rfl)
theorem dL_law_370 : decode cL_law 370 = .ok (.aload_n 0, 1) := dk_42 (dk_at dksL_law_10 11 rfl rfl)
theorem dL_law_371 : decode cL_law 371 = .ok (.iload_n 3, 1) := dk_29 (dk_at dksL_law_10 12 rfl rfl)
theorem dL_law_372 : decode cL_law 372 = .ok (.iconst 2, 1) := dk_5 (dk_at dksL_law_10 13 rfl rfl)
theorem dL_law_373 : decode cL_law 373 = .ok (.iadd, 1) := dk_96 (dk_at dksL_law_10 14 rfl rfl)
theorem dL_law_374 : decode cL_law 374 = .ok (.iaload, 1) := dk_46 (dk_at dksL_law_10 15 rfl rfl)
theorem dL_law_375 : decode cL_law 375 = .ok (.invokevirtual 32, 3) := dk_182 0 32 (dk_at dksL_law_10 16 rfl rfl)
theorem dL_law_378 : decode cL_law 378 = .ok (.aload_n 2, 1) := dk_44 (dk_at dksL_law_10 19 rfl rfl)
theorem dL_law_379 : decode cL_law 379 = .ok (.aload_n 0, 1) := dk_42 (dk_at dksL_law_10 20 rfl rfl)
theorem dL_law_380 : decode cL_law 380 = .ok (.iload_n 3, 1) := dk_29 (dk_at dksL_law_10 21 rfl rfl)
theorem dL_law_381 : decode cL_law 381 = .ok (.iconst 1, 1) := dk_4 (dk_at dksL_law_10 22 rfl rfl)
theorem dL_law_382 : decode cL_law 382 = .ok (.iadd, 1) := dk_96 (dk_at dksL_law_10 23 rfl rfl)
theorem dL_law_383 : decode cL_law 383 = .ok (.iaload, 1) := dk_46 (dk_at dksL_law_11 0 rfl rfl)
theorem dL_law_384 : decode cL_law 384 = .ok (.aload_n 0, 1) := dk_42 (dk_at dksL_law_11 1 rfl rfl)
theorem dL_law_385 : decode cL_law 385 = .ok (.iload_n 3, 1) := dk_29 (dk_at dksL_law_11 2 rfl rfl)
theorem dL_law_386 : decode cL_law 386 = .ok (.iconst 2, 1) := dk_5 (dk_at dksL_law_11 3 rfl rfl)
theorem dL_law_387 : decode cL_law 387 = .ok (.iadd, 1) := dk_96 (dk_at dksL_law_11 4 rfl rfl)
theorem dL_law_388 : decode cL_law 388 = .ok (.iaload, 1) := dk_46 (dk_at dksL_law_11 5 rfl rfl)
theorem dL_law_389 : decode cL_law 389 = .ok (.invokevirtual 35, 3) := dk_182 0 35 (dk_at dksL_law_11 6 rfl rfl)
theorem dL_law_392 : decode cL_law 392 = .ok (.if_icmp .eq 1053, 3) := dk_159 4 29 (dk_at dksL_law_11 9 rfl rfl)
theorem dL_law_395 : decode cL_law 395 = .ok (.iconst 0, 1) := dk_3 (dk_at dksL_law_11 12 rfl rfl)
theorem dL_law_396 : decode cL_law 396 = .ok (.ireturn, 1) := dk_172 (dk_at dksL_law_11 13 rfl rfl)
theorem dL_law_397 : decode cL_law 397 = .ok (.aload_n 1, 1) := dk_43 (dk_at dksL_law_11 14 rfl rfl)
theorem dL_law_398 : decode cL_law 398 = .ok (.aload_n 0, 1) := dk_42 (dk_at dksL_law_11 15 rfl rfl)
theorem dL_law_399 : decode cL_law 399 = .ok (.iload_n 3, 1) := dk_29 (dk_at dksL_law_11 16 rfl rfl)
theorem dL_law_400 : decode cL_law 400 = .ok (.iconst 1, 1) := dk_4 (dk_at dksL_law_11 17 rfl rfl)
theorem dL_law_401 : decode cL_law 401 = .ok (.iadd, 1) := dk_96 (dk_at dksL_law_11 18 rfl rfl)
theorem dL_law_402 : decode cL_law 402 = .ok (.iaload, 1) := dk_46 (dk_at dksL_law_11 19 rfl rfl)
theorem dL_law_403 : decode cL_law 403 = .ok (.aload_n 0, 1) := dk_42 (dk_at dksL_law_11 20 rfl rfl)
theorem dL_law_404 : decode cL_law 404 = .ok (.iload_n 3, 1) := dk_29 (dk_at dksL_law_11 21 rfl rfl)
theorem dL_law_405 : decode cL_law 405 = .ok (.iconst 2, 1) := dk_5 (dk_at dksL_law_11 22 rfl rfl)
theorem dL_law_406 : decode cL_law 406 = .ok (.iadd, 1) := dk_96 (dk_at dksL_law_11 23 rfl rfl)
theorem dL_law_407 : decode cL_law 407 = .ok (.iaload, 1) := dk_46 (dk_at dksL_law_12 0 rfl rfl)
theorem dL_law_408 : decode cL_law 408 = .ok (.invokevirtual 36, 3) := dk_182 0 36 (dk_at dksL_law_12 1 rfl rfl)
theorem dL_law_411 : decode cL_law 411 = .ok (.aload_n 2, 1) := dk_44 (dk_at dksL_law_12 4 rfl rfl)
theorem dL_law_412 : decode cL_law 412 = .ok (.aload_n 0, 1) := dk_42 (dk_at dksL_law_12 5 rfl rfl)
theorem dL_law_413 : decode cL_law 413 = .ok (.iload_n 3, 1) := dk_29 (dk_at dksL_law_12 6 rfl rfl)
theorem dL_law_414 : decode cL_law 414 = .ok (.iconst 1, 1) := dk_4 (dk_at dksL_law_12 7 rfl rfl)
theorem dL_law_415 : decode cL_law 415 = .ok (.iadd, 1) := dk_96 (dk_at dksL_law_12 8 rfl rfl)
theorem dL_law_416 : decode cL_law 416 = .ok (.iaload, 1) := dk_46 (dk_at dksL_law_12 9 rfl rfl)
theorem dL_law_417 : decode cL_law 417 = .ok (.aload_n 0, 1) := dk_42 (dk_at dksL_law_12 10 rfl rfl)
theorem dL_law_418 : decode cL_law 418 = .ok (.iload_n 3, 1) := dk_29 (dk_at dksL_law_12 11 rfl rfl)
theorem dL_law_419 : decode cL_law 419 = .ok (.iconst 2, 1) := dk_5 (dk_at dksL_law_12 12 rfl rfl)
theorem dL_law_420 : decode cL_law 420 = .ok (.iadd, 1) := dk_96 (dk_at dksL_law_12 13 rfl rfl)
theorem dL_law_421 : decode cL_law 421 = .ok (.iaload, 1) := dk_46 (dk_at dksL_law_12 14 rfl rfl)
theorem dL_law_422 : decode cL_law 422 = .ok (.invokevirtual 39, 3) := dk_182 0 39 (dk_at dksL_law_12 15 rfl rfl)
theorem dL_law_425 : decode cL_law 425 = .ok (.if_icmp .eq 1020, 3) := dk_159 3 252 (dk_at dksL_law_12 18 rfl rfl)
theorem dL_law_428 : decode cL_law 428 = .ok (.iconst 0, 1) := dk_3 (dk_at dksL_law_12 21 rfl rfl)
theorem dL_law_429 : decode cL_law 429 = .ok (.ireturn, 1) := dk_172 (dk_at dksL_law_12 22 rfl rfl)
theorem dL_law_430 : decode cL_law 430 = .ok (.aload_n 1, 1) := dk_43 (dk_at dksL_law_12 23 rfl rfl)
theorem dL_law_431 : decode cL_law 431 = .ok (.aload_n 0, 1) := dk_42 (dk_at dksL_law_13 0 rfl rfl)
theorem dL_law_432 : decode cL_law 432 = .ok (.iload_n 3, 1) := dk_29 (dk_at dksL_law_13 1 rfl rfl)
theorem dL_law_433 : decode cL_law 433 = .ok (.iconst 1, 1) := dk_4 (dk_at dksL_law_13 2 rfl rfl)
theorem dL_law_434 : decode cL_law 434 = .ok (.iadd, 1) := dk_96 (dk_at dksL_law_13 3 rfl rfl)
theorem dL_law_435 : decode cL_law 435 = .ok (.iaload, 1) := dk_46 (dk_at dksL_law_13 4 rfl rfl)
theorem dL_law_436 : decode cL_law 436 = .ok (.aload_n 0, 1) := dk_42 (dk_at dksL_law_13 5 rfl rfl)
theorem dL_law_437 : decode cL_law 437 = .ok (.iload_n 3, 1) := dk_29 (dk_at dksL_law_13 6 rfl rfl)
theorem dL_law_438 : decode cL_law 438 = .ok (.iconst 2, 1) := dk_5 (dk_at dksL_law_13 7 rfl rfl)
theorem dL_law_439 : decode cL_law 439 = .ok (.iadd, 1) := dk_96 (dk_at dksL_law_13 8 rfl rfl)
theorem dL_law_440 : decode cL_law 440 = .ok (.iaload, 1) := dk_46 (dk_at dksL_law_13 9 rfl rfl)
theorem dL_law_441 : decode cL_law 441 = .ok (.invokevirtual 40, 3) := dk_182 0 40 (dk_at dksL_law_13 10 rfl rfl)
theorem dL_law_444 : decode cL_law 444 = .ok (.aload_n 2, 1) := dk_44 (dk_at dksL_law_13 13 rfl rfl)
theorem dL_law_445 : decode cL_law 445 = .ok (.aload_n 0, 1) := dk_42 (dk_at dksL_law_13 14 rfl rfl)
theorem dL_law_446 : decode cL_law 446 = .ok (.iload_n 3, 1) := dk_29 (dk_at dksL_law_13 15 rfl rfl)
theorem dL_law_447 : decode cL_law 447 = .ok (.iconst 1, 1) := dk_4 (dk_at dksL_law_13 16 rfl rfl)
theorem dL_law_448 : decode cL_law 448 = .ok (.iadd, 1) := dk_96 (dk_at dksL_law_13 17 rfl rfl)
theorem dL_law_449 : decode cL_law 449 = .ok (.iaload, 1) := dk_46 (dk_at dksL_law_13 18 rfl rfl)
theorem dL_law_450 : decode cL_law 450 = .ok (.aload_n 0, 1) := dk_42 (dk_at dksL_law_13 19 rfl rfl)
theorem dL_law_451 : decode cL_law 451 = .ok (.iload_n 3, 1) := dk_29 (dk_at dksL_law_13 20 rfl rfl)
theorem dL_law_452 : decode cL_law 452 = .ok (.iconst 2, 1) := dk_5 (dk_at dksL_law_13 21 rfl rfl)
theorem dL_law_453 : decode cL_law 453 = .ok (.iadd, 1) := dk_96 (dk_at dksL_law_13 22 rfl rfl)
theorem dL_law_454 : decode cL_law 454 = .ok (.iaload, 1) := dk_46 (dk_at dksL_law_13 23 rfl rfl)
theorem dL_law_455 : decode cL_law 455 = .ok (.invokevirtual 43, 3) := dk_182 0 43 (dk_at dksL_law_14 0 rfl rfl)
theorem dL_law_458 : decode cL_law 458 = .ok (.if_icmp .eq 987, 3) := dk_159 3 219 (dk_at dksL_law_14 3 rfl rfl)
theorem dL_law_461 : decode cL_law 461 = .ok (.iconst 0, 1) := dk_3 (dk_at dksL_law_14 6 rfl rfl)
theorem dL_law_462 : decode cL_law 462 = .ok (.ireturn, 1) := dk_172 (dk_at dksL_law_14 7 rfl rfl)
theorem dL_law_463 : decode cL_law 463 = .ok (.aload_n 1, 1) := dk_43 (dk_at dksL_law_14 8 rfl rfl)
theorem dL_law_464 : decode cL_law 464 = .ok (.aload_n 0, 1) := dk_42 (dk_at dksL_law_14 9 rfl rfl)
theorem dL_law_465 : decode cL_law 465 = .ok (.iload_n 3, 1) := dk_29 (dk_at dksL_law_14 10 rfl rfl)
theorem dL_law_466 : decode cL_law 466 = .ok (.iconst 1, 1) := dk_4 (dk_at dksL_law_14 11 rfl rfl)
theorem dL_law_467 : decode cL_law 467 = .ok (.iadd, 1) := dk_96 (dk_at dksL_law_14 12 rfl rfl)
theorem dL_law_468 : decode cL_law 468 = .ok (.iaload, 1) := dk_46 (dk_at dksL_law_14 13 rfl rfl)
theorem dL_law_469 : decode cL_law 469 = .ok (.invokevirtual 44, 3) := dk_182 0 44 (dk_at dksL_law_14 14 rfl rfl)
theorem dL_law_472 : decode cL_law 472 = .ok (.aload_n 2, 1) := dk_44 (dk_at dksL_law_14 17 rfl rfl)
theorem dL_law_473 : decode cL_law 473 = .ok (.aload_n 0, 1) := dk_42 (dk_at dksL_law_14 18 rfl rfl)
theorem dL_law_474 : decode cL_law 474 = .ok (.iload_n 3, 1) := dk_29 (dk_at dksL_law_14 19 rfl rfl)
theorem dL_law_475 : decode cL_law 475 = .ok (.iconst 1, 1) := dk_4 (dk_at dksL_law_14 20 rfl rfl)
theorem dL_law_476 : decode cL_law 476 = .ok (.iadd, 1) := dk_96 (dk_at dksL_law_14 21 rfl rfl)
theorem dL_law_477 : decode cL_law 477 = .ok (.iaload, 1) := dk_46 (dk_at dksL_law_14 22 rfl rfl)
theorem dL_law_478 : decode cL_law 478 = .ok (.invokevirtual 48, 3) := dk_182 0 48 (dk_at dksL_law_15 0 rfl rfl)
theorem dL_law_481 : decode cL_law 481 = .ok (.if_icmp .eq 964, 3) := dk_159 3 196 (dk_at dksL_law_15 3 rfl rfl)
theorem dL_law_484 : decode cL_law 484 = .ok (.iconst 0, 1) := dk_3 (dk_at dksL_law_15 6 rfl rfl)
theorem dL_law_485 : decode cL_law 485 = .ok (.ireturn, 1) := dk_172 (dk_at dksL_law_15 7 rfl rfl)
theorem dL_law_486 : decode cL_law 486 = .ok (.aload_n 1, 1) := dk_43 (dk_at dksL_law_15 8 rfl rfl)
theorem dL_law_487 : decode cL_law 487 = .ok (.aload_n 0, 1) := dk_42 (dk_at dksL_law_15 9 rfl rfl)
theorem dL_law_488 : decode cL_law 488 = .ok (.iload_n 3, 1) := dk_29 (dk_at dksL_law_15 10 rfl rfl)
theorem dL_law_489 : decode cL_law 489 = .ok (.iconst 1, 1) := dk_4 (dk_at dksL_law_15 11 rfl rfl)
theorem dL_law_490 : decode cL_law 490 = .ok (.iadd, 1) := dk_96 (dk_at dksL_law_15 12 rfl rfl)
theorem dL_law_491 : decode cL_law 491 = .ok (.iaload, 1) := dk_46 (dk_at dksL_law_15 13 rfl rfl)
theorem dL_law_492 : decode cL_law 492 = .ok (.aload_n 0, 1) := dk_42 (dk_at dksL_law_15 14 rfl rfl)
theorem dL_law_493 : decode cL_law 493 = .ok (.iload_n 3, 1) := dk_29 (dk_at dksL_law_15 15 rfl rfl)
theorem dL_law_494 : decode cL_law 494 = .ok (.iconst 2, 1) := dk_5 (dk_at dksL_law_15 16 rfl rfl)
theorem dL_law_495 : decode cL_law 495 = .ok (.iadd, 1) := dk_96 (dk_at dksL_law_15 17 rfl rfl)
theorem dL_law_496 : decode cL_law 496 = .ok (.iaload, 1) := dk_46 (dk_at dksL_law_15 18 rfl rfl)
theorem dL_law_497 : decode cL_law 497 = .ok (.aload_n 0, 1) := dk_42 (dk_at dksL_law_15 19 rfl rfl)
theorem dL_law_498 : decode cL_law 498 = .ok (.iload_n 3, 1) := dk_29 (dk_at dksL_law_15 20 rfl rfl)
theorem dL_law_499 : decode cL_law 499 = .ok (.iconst 3, 1) := dk_6 (dk_at dksL_law_15 21 rfl rfl)
theorem dL_law_500 : decode cL_law 500 = .ok (.iadd, 1) := dk_96 (dk_at dksL_law_15 22 rfl rfl)
theorem dL_law_501 : decode cL_law 501 = .ok (.iaload, 1) := dk_46 (dk_at dksL_law_15 23 rfl rfl)
theorem dL_law_502 : decode cL_law 502 = .ok (.aload_n 0, 1) := dk_42 (dk_at dksL_law_16 0 rfl rfl)
theorem dL_law_503 : decode cL_law 503 = .ok (.iload_n 3, 1) := dk_29 (dk_at dksL_law_16 1 rfl rfl)
theorem dL_law_504 : decode cL_law 504 = .ok (.iconst 4, 1) := dk_7 (dk_at dksL_law_16 2 rfl rfl)
theorem dL_law_505 : decode cL_law 505 = .ok (.iadd, 1) := dk_96 (dk_at dksL_law_16 3 rfl rfl)
theorem dL_law_506 : decode cL_law 506 = .ok (.iaload, 1) := dk_46 (dk_at dksL_law_16 4 rfl rfl)
theorem dL_law_507 : decode cL_law 507 = .ok (.invokevirtual 49, 3) := dk_182 0 49 (dk_at dksL_law_16 5 rfl rfl)
theorem dL_law_510 : decode cL_law 510 = .ok (.aload_n 2, 1) := dk_44 (dk_at dksL_law_16 8 rfl rfl)
theorem dL_law_511 : decode cL_law 511 = .ok (.aload_n 0, 1) := dk_42 (dk_at dksL_law_16 9 rfl rfl)
theorem dL_law_512 : decode cL_law 512 = .ok (.iload_n 3, 1) := dk_29 (dk_at dksL_law_16 10 rfl rfl)
theorem dL_law_513 : decode cL_law 513 = .ok (.iconst 1, 1) := dk_4 (dk_at dksL_law_16 11 rfl rfl)
theorem dL_law_514 : decode cL_law 514 = .ok (.iadd, 1) := dk_96 (dk_at dksL_law_16 12 rfl rfl)
theorem dL_law_515 : decode cL_law 515 = .ok (.iaload, 1) := dk_46 (dk_at dksL_law_16 13 rfl rfl)
theorem dL_law_516 : decode cL_law 516 = .ok (.aload_n 0, 1) := dk_42 (dk_at dksL_law_16 14 rfl rfl)
theorem dL_law_517 : decode cL_law 517 = .ok (.iload_n 3, 1) := dk_29 (dk_at dksL_law_16 15 rfl rfl)
theorem dL_law_518 : decode cL_law 518 = .ok (.iconst 2, 1) := dk_5 (dk_at dksL_law_16 16 rfl rfl)
theorem dL_law_519 : decode cL_law 519 = .ok (.iadd, 1) := dk_96 (dk_at dksL_law_16 17 rfl rfl)
theorem dL_law_520 : decode cL_law 520 = .ok (.iaload, 1) := dk_46 (dk_at dksL_law_16 18 rfl rfl)
theorem dL_law_521 : decode cL_law 521 = .ok (.aload_n 0, 1) := dk_42 (dk_at dksL_law_16 19 rfl rfl)
theorem dL_law_522 : decode cL_law 522 = .ok (.iload_n 3, 1) := dk_29 (dk_at dksL_law_16 20 rfl rfl)
theorem dL_law_523 : decode cL_law 523 = .ok (.iconst 3, 1) := dk_6 (dk_at dksL_law_16 21 rfl rfl)
theorem dL_law_524 : decode cL_law 524 = .ok (.iadd, 1) := dk_96 (dk_at dksL_law_16 22 rfl rfl)
theorem dL_law_525 : decode cL_law 525 = .ok (.iaload, 1) := dk_46 (dk_at dksL_law_16 23 rfl rfl)
theorem dL_law_526 : decode cL_law 526 = .ok (.aload_n 0, 1) := dk_42 (dk_at dksL_law_17 0 rfl rfl)
theorem dL_law_527 : decode cL_law 527 = .ok (.iload_n 3, 1) := dk_29 (dk_at dksL_law_17 1 rfl rfl)
theorem dL_law_528 : decode cL_law 528 = .ok (.iconst 4, 1) := dk_7 (dk_at dksL_law_17 2 rfl rfl)
theorem dL_law_529 : decode cL_law 529 = .ok (.iadd, 1) := dk_96 (dk_at dksL_law_17 3 rfl rfl)
theorem dL_law_530 : decode cL_law 530 = .ok (.iaload, 1) := dk_46 (dk_at dksL_law_17 4 rfl rfl)
theorem dL_law_531 : decode cL_law 531 = .ok (.invokevirtual 53, 3) := dk_182 0 53 (dk_at dksL_law_17 5 rfl rfl)
theorem dL_law_534 : decode cL_law 534 = .ok (.if_icmp .eq 911, 3) := dk_159 3 143 (dk_at dksL_law_17 8 rfl rfl)
theorem dL_law_537 : decode cL_law 537 = .ok (.iconst 0, 1) := dk_3 (dk_at dksL_law_17 11 rfl rfl)
theorem dL_law_538 : decode cL_law 538 = .ok (.ireturn, 1) := dk_172 (dk_at dksL_law_17 12 rfl rfl)
theorem dL_law_539 : decode cL_law 539 = .ok (.aload_n 1, 1) := dk_43 (dk_at dksL_law_17 13 rfl rfl)
theorem dL_law_540 : decode cL_law 540 = .ok (.aload_n 0, 1) := dk_42 (dk_at dksL_law_17 14 rfl rfl)
theorem dL_law_541 : decode cL_law 541 = .ok (.iload_n 3, 1) := dk_29 (dk_at dksL_law_17 15 rfl rfl)
theorem dL_law_542 : decode cL_law 542 = .ok (.iconst 1, 1) := dk_4 (dk_at dksL_law_17 16 rfl rfl)
theorem dL_law_543 : decode cL_law 543 = .ok (.iadd, 1) := dk_96 (dk_at dksL_law_17 17 rfl rfl)
theorem dL_law_544 : decode cL_law 544 = .ok (.iaload, 1) := dk_46 (dk_at dksL_law_17 18 rfl rfl)
theorem dL_law_545 : decode cL_law 545 = .ok (.aload_n 0, 1) := dk_42 (dk_at dksL_law_17 19 rfl rfl)
theorem dL_law_546 : decode cL_law 546 = .ok (.iload_n 3, 1) := dk_29 (dk_at dksL_law_17 20 rfl rfl)
theorem dL_law_547 : decode cL_law 547 = .ok (.iconst 2, 1) := dk_5 (dk_at dksL_law_17 21 rfl rfl)
theorem dL_law_548 : decode cL_law 548 = .ok (.iadd, 1) := dk_96 (dk_at dksL_law_17 22 rfl rfl)
theorem dL_law_549 : decode cL_law 549 = .ok (.iaload, 1) := dk_46 (dk_at dksL_law_17 23 rfl rfl)
theorem dL_law_550 : decode cL_law 550 = .ok (.aload_n 0, 1) := dk_42 (dk_at dksL_law_18 0 rfl rfl)
theorem dL_law_551 : decode cL_law 551 = .ok (.iload_n 3, 1) := dk_29 (dk_at dksL_law_18 1 rfl rfl)
theorem dL_law_552 : decode cL_law 552 = .ok (.iconst 3, 1) := dk_6 (dk_at dksL_law_18 2 rfl rfl)
theorem dL_law_553 : decode cL_law 553 = .ok (.iadd, 1) := dk_96 (dk_at dksL_law_18 3 rfl rfl)
theorem dL_law_554 : decode cL_law 554 = .ok (.iaload, 1) := dk_46 (dk_at dksL_law_18 4 rfl rfl)
theorem dL_law_555 : decode cL_law 555 = .ok (.aload_n 0, 1) := dk_42 (dk_at dksL_law_18 5 rfl rfl)
theorem dL_law_556 : decode cL_law 556 = .ok (.iload_n 3, 1) := dk_29 (dk_at dksL_law_18 6 rfl rfl)
theorem dL_law_557 : decode cL_law 557 = .ok (.iconst 4, 1) := dk_7 (dk_at dksL_law_18 7 rfl rfl)
theorem dL_law_558 : decode cL_law 558 = .ok (.iadd, 1) := dk_96 (dk_at dksL_law_18 8 rfl rfl)
theorem dL_law_559 : decode cL_law 559 = .ok (.iaload, 1) := dk_46 (dk_at dksL_law_18 9 rfl rfl)
theorem dL_law_560 : decode cL_law 560 = .ok (.aload_n 0, 1) := dk_42 (dk_at dksL_law_18 10 rfl rfl)
theorem dL_law_561 : decode cL_law 561 = .ok (.iload_n 3, 1) := dk_29 (dk_at dksL_law_18 11 rfl rfl)
theorem dL_law_562 : decode cL_law 562 = .ok (.iconst 5, 1) := dk_8 (dk_at dksL_law_18 12 rfl rfl)
theorem dL_law_563 : decode cL_law 563 = .ok (.iadd, 1) := dk_96 (dk_at dksL_law_18 13 rfl rfl)
theorem dL_law_564 : decode cL_law 564 = .ok (.iaload, 1) := dk_46 (dk_at dksL_law_18 14 rfl rfl)
theorem dL_law_565 : decode cL_law 565 = .ok (.ifCond .eq 7, 3) := dk_153 0 7 (dk_at dksL_law_18 15 rfl rfl)
theorem dL_law_568 : decode cL_law 568 = .ok (.iconst 1, 1) := dk_4 (dk_at dksL_law_18 18 rfl rfl)
theorem dL_law_569 : decode cL_law 569 = .ok (.goto 4, 3) := dk_167 0 4 (dk_at dksL_law_18 19 rfl rfl)
theorem dL_law_572 : decode cL_law 572 = .ok (.iconst 0, 1) := dk_3 (dk_at dksL_law_18 22 rfl rfl)
theorem dL_law_573 : decode cL_law 573 = .ok (.aload_n 0, 1) := dk_42 (dk_at dksL_law_18 23 rfl rfl)
theorem dL_law_574 : decode cL_law 574 = .ok (.iload_n 3, 1) := dk_29 (dk_at dksL_law_19 0 rfl rfl)
theorem dL_law_575 : decode cL_law 575 = .ok (.bipush 6, 2) := dk_16 6 (dk_at dksL_law_19 1 rfl rfl)
theorem dL_law_577 : decode cL_law 577 = .ok (.iadd, 1) := dk_96 (dk_at dksL_law_19 3 rfl rfl)
theorem dL_law_578 : decode cL_law 578 = .ok (.iaload, 1) := dk_46 (dk_at dksL_law_19 4 rfl rfl)
theorem dL_law_579 : decode cL_law 579 = .ok (.invokevirtual 54, 3) := dk_182 0 54 (dk_at dksL_law_19 5 rfl rfl)
theorem dL_law_582 : decode cL_law 582 = .ok (.aload_n 2, 1) := dk_44 (dk_at dksL_law_19 8 rfl rfl)
theorem dL_law_583 : decode cL_law 583 = .ok (.aload_n 0, 1) := dk_42 (dk_at dksL_law_19 9 rfl rfl)
theorem dL_law_584 : decode cL_law 584 = .ok (.iload_n 3, 1) := dk_29 (dk_at dksL_law_19 10 rfl rfl)
theorem dL_law_585 : decode cL_law 585 = .ok (.iconst 1, 1) := dk_4 (dk_at dksL_law_19 11 rfl rfl)
theorem dL_law_586 : decode cL_law 586 = .ok (.iadd, 1) := dk_96 (dk_at dksL_law_19 12 rfl rfl)
theorem dL_law_587 : decode cL_law 587 = .ok (.iaload, 1) := dk_46 (dk_at dksL_law_19 13 rfl rfl)
theorem dL_law_588 : decode cL_law 588 = .ok (.aload_n 0, 1) := dk_42 (dk_at dksL_law_19 14 rfl rfl)
theorem dL_law_589 : decode cL_law 589 = .ok (.iload_n 3, 1) := dk_29 (dk_at dksL_law_19 15 rfl rfl)
theorem dL_law_590 : decode cL_law 590 = .ok (.iconst 2, 1) := dk_5 (dk_at dksL_law_19 16 rfl rfl)
theorem dL_law_591 : decode cL_law 591 = .ok (.iadd, 1) := dk_96 (dk_at dksL_law_19 17 rfl rfl)
theorem dL_law_592 : decode cL_law 592 = .ok (.iaload, 1) := dk_46 (dk_at dksL_law_19 18 rfl rfl)
theorem dL_law_593 : decode cL_law 593 = .ok (.aload_n 0, 1) := dk_42 (dk_at dksL_law_19 19 rfl rfl)
theorem dL_law_594 : decode cL_law 594 = .ok (.iload_n 3, 1) := dk_29 (dk_at dksL_law_19 20 rfl rfl)
theorem dL_law_595 : decode cL_law 595 = .ok (.iconst 3, 1) := dk_6 (dk_at dksL_law_19 21 rfl rfl)
theorem dL_law_596 : decode cL_law 596 = .ok (.iadd, 1) := dk_96 (dk_at dksL_law_19 22 rfl rfl)
theorem dL_law_597 : decode cL_law 597 = .ok (.iaload, 1) := dk_46 (dk_at dksL_law_19 23 rfl rfl)
theorem dL_law_598 : decode cL_law 598 = .ok (.aload_n 0, 1) := dk_42 (dk_at dksL_law_20 0 rfl rfl)
theorem dL_law_599 : decode cL_law 599 = .ok (.iload_n 3, 1) := dk_29 (dk_at dksL_law_20 1 rfl rfl)
theorem dL_law_600 : decode cL_law 600 = .ok (.iconst 4, 1) := dk_7 (dk_at dksL_law_20 2 rfl rfl)
theorem dL_law_601 : decode cL_law 601 = .ok (.iadd, 1) := dk_96 (dk_at dksL_law_20 3 rfl rfl)
theorem dL_law_602 : decode cL_law 602 = .ok (.iaload, 1) := dk_46 (dk_at dksL_law_20 4 rfl rfl)
theorem dL_law_603 : decode cL_law 603 = .ok (.aload_n 0, 1) := dk_42 (dk_at dksL_law_20 5 rfl rfl)
theorem dL_law_604 : decode cL_law 604 = .ok (.iload_n 3, 1) := dk_29 (dk_at dksL_law_20 6 rfl rfl)
theorem dL_law_605 : decode cL_law 605 = .ok (.iconst 5, 1) := dk_8 (dk_at dksL_law_20 7 rfl rfl)
theorem dL_law_606 : decode cL_law 606 = .ok (.iadd, 1) := dk_96 (dk_at dksL_law_20 8 rfl rfl)
theorem dL_law_607 : decode cL_law 607 = .ok (.iaload, 1) := dk_46 (dk_at dksL_law_20 9 rfl rfl)
theorem dL_law_608 : decode cL_law 608 = .ok (.ifCond .eq 7, 3) := dk_153 0 7 (dk_at dksL_law_20 10 rfl rfl)
theorem dL_law_611 : decode cL_law 611 = .ok (.iconst 1, 1) := dk_4 (dk_at dksL_law_20 13 rfl rfl)
theorem dL_law_612 : decode cL_law 612 = .ok (.goto 4, 3) := dk_167 0 4 (dk_at dksL_law_20 14 rfl rfl)
theorem dL_law_615 : decode cL_law 615 = .ok (.iconst 0, 1) := dk_3 (dk_at dksL_law_20 17 rfl rfl)
theorem dL_law_616 : decode cL_law 616 = .ok (.aload_n 0, 1) := dk_42 (dk_at dksL_law_20 18 rfl rfl)
theorem dL_law_617 : decode cL_law 617 = .ok (.iload_n 3, 1) := dk_29 (dk_at dksL_law_20 19 rfl rfl)
theorem dL_law_618 : decode cL_law 618 = .ok (.bipush 6, 2) := dk_16 6 (dk_at dksL_law_20 20 rfl rfl)
theorem dL_law_620 : decode cL_law 620 = .ok (.iadd, 1) := dk_96 (dk_at dksL_law_20 22 rfl rfl)
theorem dL_law_621 : decode cL_law 621 = .ok (.iaload, 1) := dk_46 (dk_at dksL_law_20 23 rfl rfl)
theorem dL_law_622 : decode cL_law 622 = .ok (.invokevirtual 58, 3) := dk_182 0 58 (dk_at dksL_law_21 0 rfl rfl)
theorem dL_law_625 : decode cL_law 625 = .ok (.if_icmp .eq 820, 3) := dk_159 3 52 (dk_at dksL_law_21 3 rfl rfl)
theorem dL_law_628 : decode cL_law 628 = .ok (.iconst 0, 1) := dk_3 (dk_at dksL_law_21 6 rfl rfl)
theorem dL_law_629 : decode cL_law 629 = .ok (.ireturn, 1) := dk_172 (dk_at dksL_law_21 7 rfl rfl)
theorem dL_law_630 : decode cL_law 630 = .ok (.aload_n 1, 1) := dk_43 (dk_at dksL_law_21 8 rfl rfl)
theorem dL_law_631 : decode cL_law 631 = .ok (.aload_n 0, 1) := dk_42 (dk_at dksL_law_21 9 rfl rfl)
theorem dL_law_632 : decode cL_law 632 = .ok (.iload_n 3, 1) := dk_29 (dk_at dksL_law_21 10 rfl rfl)
theorem dL_law_633 : decode cL_law 633 = .ok (.iconst 1, 1) := dk_4 (dk_at dksL_law_21 11 rfl rfl)
theorem dL_law_634 : decode cL_law 634 = .ok (.iadd, 1) := dk_96 (dk_at dksL_law_21 12 rfl rfl)
theorem dL_law_635 : decode cL_law 635 = .ok (.iaload, 1) := dk_46 (dk_at dksL_law_21 13 rfl rfl)
theorem dL_law_636 : decode cL_law 636 = .ok (.invokevirtual 59, 3) := dk_182 0 59 (dk_at dksL_law_21 14 rfl rfl)
theorem dL_law_639 : decode cL_law 639 = .ok (.aload_n 2, 1) := dk_44 (dk_at dksL_law_21 17 rfl rfl)
theorem dL_law_640 : decode cL_law 640 = .ok (.aload_n 0, 1) := dk_42 (dk_at dksL_law_21 18 rfl rfl)
theorem dL_law_641 : decode cL_law 641 = .ok (.iload_n 3, 1) := dk_29 (dk_at dksL_law_21 19 rfl rfl)
theorem dL_law_642 : decode cL_law 642 = .ok (.iconst 1, 1) := dk_4 (dk_at dksL_law_21 20 rfl rfl)
theorem dL_law_643 : decode cL_law 643 = .ok (.iadd, 1) := dk_96 (dk_at dksL_law_21 21 rfl rfl)
theorem dL_law_644 : decode cL_law 644 = .ok (.iaload, 1) := dk_46 (dk_at dksL_law_21 22 rfl rfl)
theorem dL_law_645 : decode cL_law 645 = .ok (.invokevirtual 62, 3) := dk_182 0 62 (dk_at dksL_law_22 0 rfl rfl)
theorem dL_law_648 : decode cL_law 648 = .ok (.if_icmp .eq 797, 3) := dk_159 3 29 (dk_at dksL_law_22 3 rfl rfl)
theorem dL_law_651 : decode cL_law 651 = .ok (.iconst 0, 1) := dk_3 (dk_at dksL_law_22 6 rfl rfl)
theorem dL_law_652 : decode cL_law 652 = .ok (.ireturn, 1) := dk_172 (dk_at dksL_law_22 7 rfl rfl)
theorem dL_law_653 : decode cL_law 653 = .ok (.aload_n 1, 1) := dk_43 (dk_at dksL_law_22 8 rfl rfl)
theorem dL_law_654 : decode cL_law 654 = .ok (.aload_n 0, 1) := dk_42 (dk_at dksL_law_22 9 rfl rfl)
theorem dL_law_655 : decode cL_law 655 = .ok (.iload_n 3, 1) := dk_29 (dk_at dksL_law_22 10 rfl rfl)
theorem dL_law_656 : decode cL_law 656 = .ok (.iconst 1, 1) := dk_4 (dk_at dksL_law_22 11 rfl rfl)
theorem dL_law_657 : decode cL_law 657 = .ok (.iadd, 1) := dk_96 (dk_at dksL_law_22 12 rfl rfl)
theorem dL_law_658 : decode cL_law 658 = .ok (.iaload, 1) := dk_46 (dk_at dksL_law_22 13 rfl rfl)
theorem dL_law_659 : decode cL_law 659 = .ok (.aload_n 0, 1) := dk_42 (dk_at dksL_law_22 14 rfl rfl)
theorem dL_law_660 : decode cL_law 660 = .ok (.iload_n 3, 1) := dk_29 (dk_at dksL_law_22 15 rfl rfl)
theorem dL_law_661 : decode cL_law 661 = .ok (.iconst 2, 1) := dk_5 (dk_at dksL_law_22 16 rfl rfl)
theorem dL_law_662 : decode cL_law 662 = .ok (.iadd, 1) := dk_96 (dk_at dksL_law_22 17 rfl rfl)
theorem dL_law_663 : decode cL_law 663 = .ok (.iaload, 1) := dk_46 (dk_at dksL_law_22 18 rfl rfl)
theorem dL_law_664 : decode cL_law 664 = .ok (.aload_n 0, 1) := dk_42 (dk_at dksL_law_22 19 rfl rfl)
theorem dL_law_665 : decode cL_law 665 = .ok (.iload_n 3, 1) := dk_29 (dk_at dksL_law_22 20 rfl rfl)
theorem dL_law_666 : decode cL_law 666 = .ok (.iconst 3, 1) := dk_6 (dk_at dksL_law_22 21 rfl rfl)
theorem dL_law_667 : decode cL_law 667 = .ok (.iadd, 1) := dk_96 (dk_at dksL_law_22 22 rfl rfl)
theorem dL_law_668 : decode cL_law 668 = .ok (.iaload, 1) := dk_46 (dk_at dksL_law_22 23 rfl rfl)
theorem dL_law_669 : decode cL_law 669 = .ok (.ifCond .eq 7, 3) := dk_153 0 7 (dk_at dksL_law_23 0 rfl rfl)
theorem dL_law_672 : decode cL_law 672 = .ok (.iconst 1, 1) := dk_4 (dk_at dksL_law_23 3 rfl rfl)
theorem dL_law_673 : decode cL_law 673 = .ok (.goto 4, 3) := dk_167 0 4 (dk_at dksL_law_23 4 rfl rfl)
theorem dL_law_676 : decode cL_law 676 = .ok (.iconst 0, 1) := dk_3 (dk_at dksL_law_23 7 rfl rfl)
theorem dL_law_677 : decode cL_law 677 = .ok (.invokevirtual 63, 3) := dk_182 0 63 (dk_at dksL_law_23 8 rfl rfl)
theorem dL_law_680 : decode cL_law 680 = .ok (.aload_n 2, 1) := dk_44 (dk_at dksL_law_23 11 rfl rfl)
theorem dL_law_681 : decode cL_law 681 = .ok (.aload_n 0, 1) := dk_42 (dk_at dksL_law_23 12 rfl rfl)
theorem dL_law_682 : decode cL_law 682 = .ok (.iload_n 3, 1) := dk_29 (dk_at dksL_law_23 13 rfl rfl)
theorem dL_law_683 : decode cL_law 683 = .ok (.iconst 1, 1) := dk_4 (dk_at dksL_law_23 14 rfl rfl)
theorem dL_law_684 : decode cL_law 684 = .ok (.iadd, 1) := dk_96 (dk_at dksL_law_23 15 rfl rfl)
theorem dL_law_685 : decode cL_law 685 = .ok (.iaload, 1) := dk_46 (dk_at dksL_law_23 16 rfl rfl)
theorem dL_law_686 : decode cL_law 686 = .ok (.aload_n 0, 1) := dk_42 (dk_at dksL_law_23 17 rfl rfl)
theorem dL_law_687 : decode cL_law 687 = .ok (.iload_n 3, 1) := dk_29 (dk_at dksL_law_23 18 rfl rfl)
theorem dL_law_688 : decode cL_law 688 = .ok (.iconst 2, 1) := dk_5 (dk_at dksL_law_23 19 rfl rfl)
theorem dL_law_689 : decode cL_law 689 = .ok (.iadd, 1) := dk_96 (dk_at dksL_law_23 20 rfl rfl)
theorem dL_law_690 : decode cL_law 690 = .ok (.iaload, 1) := dk_46 (dk_at dksL_law_23 21 rfl rfl)
theorem dL_law_691 : decode cL_law 691 = .ok (.aload_n 0, 1) := dk_42 (dk_at dksL_law_23 22 rfl rfl)
theorem dL_law_692 : decode cL_law 692 = .ok (.iload_n 3, 1) := dk_29 (dk_at dksL_law_23 23 rfl rfl)
theorem dL_law_693 : decode cL_law 693 = .ok (.iconst 3, 1) := dk_6 (dk_at dksL_law_24 0 rfl rfl)
theorem dL_law_694 : decode cL_law 694 = .ok (.iadd, 1) := dk_96 (dk_at dksL_law_24 1 rfl rfl)
theorem dL_law_695 : decode cL_law 695 = .ok (.iaload, 1) := dk_46 (dk_at dksL_law_24 2 rfl rfl)
theorem dL_law_696 : decode cL_law 696 = .ok (.ifCond .eq 7, 3) := dk_153 0 7 (dk_at dksL_law_24 3 rfl rfl)
theorem dL_law_699 : decode cL_law 699 = .ok (.iconst 1, 1) := dk_4 (dk_at dksL_law_24 6 rfl rfl)
theorem dL_law_700 : decode cL_law 700 = .ok (.goto 4, 3) := dk_167 0 4 (dk_at dksL_law_24 7 rfl rfl)
theorem dL_law_703 : decode cL_law 703 = .ok (.iconst 0, 1) := dk_3 (dk_at dksL_law_24 10 rfl rfl)
theorem dL_law_704 : decode cL_law 704 = .ok (.invokevirtual 67, 3) := dk_182 0 67 (dk_at dksL_law_24 11 rfl rfl)
theorem dL_law_707 : decode cL_law 707 = .ok (.if_icmp .eq 738, 3) := dk_159 2 226 (dk_at dksL_law_24 14 rfl rfl)
theorem dL_law_710 : decode cL_law 710 = .ok (.iconst 0, 1) := dk_3 (dk_at dksL_law_24 17 rfl rfl)
theorem dL_law_711 : decode cL_law 711 = .ok (.ireturn, 1) := dk_172 (dk_at dksL_law_24 18 rfl rfl)
theorem dL_law_712 : decode cL_law 712 = .ok (.aload_n 1, 1) := dk_43 (dk_at dksL_law_24 19 rfl rfl)
theorem dL_law_713 : decode cL_law 713 = .ok (.aload_n 0, 1) := dk_42 (dk_at dksL_law_24 20 rfl rfl)
theorem dL_law_714 : decode cL_law 714 = .ok (.iload_n 3, 1) := dk_29 (dk_at dksL_law_24 21 rfl rfl)
theorem dL_law_715 : decode cL_law 715 = .ok (.iconst 1, 1) := dk_4 (dk_at dksL_law_24 22 rfl rfl)
theorem dL_law_716 : decode cL_law 716 = .ok (.iadd, 1) := dk_96 (dk_at dksL_law_24 23 rfl rfl)
theorem dL_law_717 : decode cL_law 717 = .ok (.iaload, 1) := dk_46 (dk_at dksL_law_25 0 rfl rfl)
theorem dL_law_718 : decode cL_law 718 = .ok (.aload_n 0, 1) := dk_42 (dk_at dksL_law_25 1 rfl rfl)
theorem dL_law_719 : decode cL_law 719 = .ok (.iload_n 3, 1) := dk_29 (dk_at dksL_law_25 2 rfl rfl)
theorem dL_law_720 : decode cL_law 720 = .ok (.iconst 2, 1) := dk_5 (dk_at dksL_law_25 3 rfl rfl)
theorem dL_law_721 : decode cL_law 721 = .ok (.iadd, 1) := dk_96 (dk_at dksL_law_25 4 rfl rfl)
theorem dL_law_722 : decode cL_law 722 = .ok (.iaload, 1) := dk_46 (dk_at dksL_law_25 5 rfl rfl)
theorem dL_law_723 : decode cL_law 723 = .ok (.ifCond .eq 7, 3) := dk_153 0 7 (dk_at dksL_law_25 6 rfl rfl)
theorem dL_law_726 : decode cL_law 726 = .ok (.iconst 1, 1) := dk_4 (dk_at dksL_law_25 9 rfl rfl)
theorem dL_law_727 : decode cL_law 727 = .ok (.goto 4, 3) := dk_167 0 4 (dk_at dksL_law_25 10 rfl rfl)
theorem dL_law_730 : decode cL_law 730 = .ok (.iconst 0, 1) := dk_3 (dk_at dksL_law_25 13 rfl rfl)
theorem dL_law_731 : decode cL_law 731 = .ok (.invokevirtual 68, 3) := dk_182 0 68 (dk_at dksL_law_25 14 rfl rfl)
theorem dL_law_734 : decode cL_law 734 = .ok (.aload_n 2, 1) := dk_44 (dk_at dksL_law_25 17 rfl rfl)
theorem dL_law_735 : decode cL_law 735 = .ok (.aload_n 0, 1) := dk_42 (dk_at dksL_law_25 18 rfl rfl)
theorem dL_law_736 : decode cL_law 736 = .ok (.iload_n 3, 1) := dk_29 (dk_at dksL_law_25 19 rfl rfl)
theorem dL_law_737 : decode cL_law 737 = .ok (.iconst 1, 1) := dk_4 (dk_at dksL_law_25 20 rfl rfl)
theorem dL_law_738 : decode cL_law 738 = .ok (.iadd, 1) := dk_96 (dk_at dksL_law_25 21 rfl rfl)
theorem dL_law_739 : decode cL_law 739 = .ok (.iaload, 1) := dk_46 (dk_at dksL_law_25 22 rfl rfl)
theorem dL_law_740 : decode cL_law 740 = .ok (.aload_n 0, 1) := dk_42 (dk_at dksL_law_25 23 rfl rfl)
theorem dL_law_741 : decode cL_law 741 = .ok (.iload_n 3, 1) := dk_29 (dk_at dksL_law_26 0 rfl rfl)
theorem dL_law_742 : decode cL_law 742 = .ok (.iconst 2, 1) := dk_5 (dk_at dksL_law_26 1 rfl rfl)
theorem dL_law_743 : decode cL_law 743 = .ok (.iadd, 1) := dk_96 (dk_at dksL_law_26 2 rfl rfl)
theorem dL_law_744 : decode cL_law 744 = .ok (.iaload, 1) := dk_46 (dk_at dksL_law_26 3 rfl rfl)
theorem dL_law_745 : decode cL_law 745 = .ok (.ifCond .eq 7, 3) := dk_153 0 7 (dk_at dksL_law_26 4 rfl rfl)
theorem dL_law_748 : decode cL_law 748 = .ok (.iconst 1, 1) := dk_4 (dk_at dksL_law_26 7 rfl rfl)
theorem dL_law_749 : decode cL_law 749 = .ok (.goto 4, 3) := dk_167 0 4 (dk_at dksL_law_26 8 rfl rfl)
theorem dL_law_752 : decode cL_law 752 = .ok (.iconst 0, 1) := dk_3 (dk_at dksL_law_26 11 rfl rfl)
theorem dL_law_753 : decode cL_law 753 = .ok (.invokevirtual 72, 3) := dk_182 0 72 (dk_at dksL_law_26 12 rfl rfl)
theorem dL_law_756 : decode cL_law 756 = .ok (.if_icmp .eq 689, 3) := dk_159 2 177 (dk_at dksL_law_26 15 rfl rfl)
theorem dL_law_759 : decode cL_law 759 = .ok (.iconst 0, 1) := dk_3 (dk_at dksL_law_26 18 rfl rfl)
theorem dL_law_760 : decode cL_law 760 = .ok (.ireturn, 1) := dk_172 (dk_at dksL_law_26 19 rfl rfl)
theorem dL_law_761 : decode cL_law 761 = .ok (.aload_n 1, 1) := dk_43 (dk_at dksL_law_26 20 rfl rfl)
theorem dL_law_762 : decode cL_law 762 = .ok (.aload_n 0, 1) := dk_42 (dk_at dksL_law_26 21 rfl rfl)
theorem dL_law_763 : decode cL_law 763 = .ok (.iload_n 3, 1) := dk_29 (dk_at dksL_law_26 22 rfl rfl)
theorem dL_law_764 : decode cL_law 764 = .ok (.iconst 1, 1) := dk_4 (dk_at dksL_law_26 23 rfl rfl)
theorem dL_law_765 : decode cL_law 765 = .ok (.iadd, 1) := dk_96 (dk_at dksL_law_27 0 rfl rfl)
theorem dL_law_766 : decode cL_law 766 = .ok (.iaload, 1) := dk_46 (dk_at dksL_law_27 1 rfl rfl)
theorem dL_law_767 : decode cL_law 767 = .ok (.aload_n 0, 1) := dk_42 (dk_at dksL_law_27 2 rfl rfl)
theorem dL_law_768 : decode cL_law 768 = .ok (.iload_n 3, 1) := dk_29 (dk_at dksL_law_27 3 rfl rfl)
theorem dL_law_769 : decode cL_law 769 = .ok (.iconst 2, 1) := dk_5 (dk_at dksL_law_27 4 rfl rfl)
theorem dL_law_770 : decode cL_law 770 = .ok (.iadd, 1) := dk_96 (dk_at dksL_law_27 5 rfl rfl)
theorem dL_law_771 : decode cL_law 771 = .ok (.iaload, 1) := dk_46 (dk_at dksL_law_27 6 rfl rfl)
theorem dL_law_772 : decode cL_law 772 = .ok (.ifCond .eq 7, 3) := dk_153 0 7 (dk_at dksL_law_27 7 rfl rfl)
theorem dL_law_775 : decode cL_law 775 = .ok (.iconst 1, 1) := dk_4 (dk_at dksL_law_27 10 rfl rfl)
theorem dL_law_776 : decode cL_law 776 = .ok (.goto 4, 3) := dk_167 0 4 (dk_at dksL_law_27 11 rfl rfl)
theorem dL_law_779 : decode cL_law 779 = .ok (.iconst 0, 1) := dk_3 (dk_at dksL_law_27 14 rfl rfl)
theorem dL_law_780 : decode cL_law 780 = .ok (.invokevirtual 73, 3) := dk_182 0 73 (dk_at dksL_law_27 15 rfl rfl)
theorem dL_law_783 : decode cL_law 783 = .ok (.aload_n 2, 1) := dk_44 (dk_at dksL_law_27 18 rfl rfl)
theorem dL_law_784 : decode cL_law 784 = .ok (.aload_n 0, 1) := dk_42 (dk_at dksL_law_27 19 rfl rfl)
theorem dL_law_785 : decode cL_law 785 = .ok (.iload_n 3, 1) := dk_29 (dk_at dksL_law_27 20 rfl rfl)
theorem dL_law_786 : decode cL_law 786 = .ok (.iconst 1, 1) := dk_4 (dk_at dksL_law_27 21 rfl rfl)
theorem dL_law_787 : decode cL_law 787 = .ok (.iadd, 1) := dk_96 (dk_at dksL_law_27 22 rfl rfl)
theorem dL_law_788 : decode cL_law 788 = .ok (.iaload, 1) := dk_46 (dk_at dksL_law_27 23 rfl rfl)
theorem dL_law_789 : decode cL_law 789 = .ok (.aload_n 0, 1) := dk_42 (dk_at dksL_law_28 0 rfl rfl)
theorem dL_law_790 : decode cL_law 790 = .ok (.iload_n 3, 1) := dk_29 (dk_at dksL_law_28 1 rfl rfl)
theorem dL_law_791 : decode cL_law 791 = .ok (.iconst 2, 1) := dk_5 (dk_at dksL_law_28 2 rfl rfl)
theorem dL_law_792 : decode cL_law 792 = .ok (.iadd, 1) := dk_96 (dk_at dksL_law_28 3 rfl rfl)
theorem dL_law_793 : decode cL_law 793 = .ok (.iaload, 1) := dk_46 (dk_at dksL_law_28 4 rfl rfl)
theorem dL_law_794 : decode cL_law 794 = .ok (.ifCond .eq 7, 3) := dk_153 0 7 (dk_at dksL_law_28 5 rfl rfl)
theorem dL_law_797 : decode cL_law 797 = .ok (.iconst 1, 1) := dk_4 (dk_at dksL_law_28 8 rfl rfl)
theorem dL_law_798 : decode cL_law 798 = .ok (.goto 4, 3) := dk_167 0 4 (dk_at dksL_law_28 9 rfl rfl)
theorem dL_law_801 : decode cL_law 801 = .ok (.iconst 0, 1) := dk_3 (dk_at dksL_law_28 12 rfl rfl)
theorem dL_law_802 : decode cL_law 802 = .ok (.invokevirtual 76, 3) := dk_182 0 76 (dk_at dksL_law_28 13 rfl rfl)
theorem dL_law_805 : decode cL_law 805 = .ok (.if_icmp .eq 640, 3) := dk_159 2 128 (dk_at dksL_law_28 16 rfl rfl)
theorem dL_law_808 : decode cL_law 808 = .ok (.iconst 0, 1) := dk_3 (dk_at dksL_law_28 19 rfl rfl)
theorem dL_law_809 : decode cL_law 809 = .ok (.ireturn, 1) := dk_172 (dk_at dksL_law_28 20 rfl rfl)
theorem dL_law_810 : decode cL_law 810 = .ok (.aload_n 1, 1) := dk_43 (dk_at dksL_law_28 21 rfl rfl)
theorem dL_law_811 : decode cL_law 811 = .ok (.aload_n 0, 1) := dk_42 (dk_at dksL_law_28 22 rfl rfl)
theorem dL_law_812 : decode cL_law 812 = .ok (.iload_n 3, 1) := dk_29 (dk_at dksL_law_28 23 rfl rfl)
theorem dL_law_813 : decode cL_law 813 = .ok (.iconst 1, 1) := dk_4 (dk_at dksL_law_29 0 rfl rfl)
theorem dL_law_814 : decode cL_law 814 = .ok (.iadd, 1) := dk_96 (dk_at dksL_law_29 1 rfl rfl)
theorem dL_law_815 : decode cL_law 815 = .ok (.iaload, 1) := dk_46 (dk_at dksL_law_29 2 rfl rfl)
theorem dL_law_816 : decode cL_law 816 = .ok (.aload_n 0, 1) := dk_42 (dk_at dksL_law_29 3 rfl rfl)
theorem dL_law_817 : decode cL_law 817 = .ok (.iload_n 3, 1) := dk_29 (dk_at dksL_law_29 4 rfl rfl)
theorem dL_law_818 : decode cL_law 818 = .ok (.iconst 2, 1) := dk_5 (dk_at dksL_law_29 5 rfl rfl)
theorem dL_law_819 : decode cL_law 819 = .ok (.iadd, 1) := dk_96 (dk_at dksL_law_29 6 rfl rfl)
theorem dL_law_820 : decode cL_law 820 = .ok (.iaload, 1) := dk_46 (dk_at dksL_law_29 7 rfl rfl)
theorem dL_law_821 : decode cL_law 821 = .ok (.aload_n 0, 1) := dk_42 (dk_at dksL_law_29 8 rfl rfl)
theorem dL_law_822 : decode cL_law 822 = .ok (.iload_n 3, 1) := dk_29 (dk_at dksL_law_29 9 rfl rfl)
theorem dL_law_823 : decode cL_law 823 = .ok (.iconst 3, 1) := dk_6 (dk_at dksL_law_29 10 rfl rfl)
theorem dL_law_824 : decode cL_law 824 = .ok (.iadd, 1) := dk_96 (dk_at dksL_law_29 11 rfl rfl)
theorem dL_law_825 : decode cL_law 825 = .ok (.iaload, 1) := dk_46 (dk_at dksL_law_29 12 rfl rfl)
theorem dL_law_826 : decode cL_law 826 = .ok (.ifCond .eq 7, 3) := dk_153 0 7 (dk_at dksL_law_29 13 rfl rfl)
theorem dL_law_829 : decode cL_law 829 = .ok (.iconst 1, 1) := dk_4 (dk_at dksL_law_29 16 rfl rfl)
theorem dL_law_830 : decode cL_law 830 = .ok (.goto 4, 3) := dk_167 0 4 (dk_at dksL_law_29 17 rfl rfl)
theorem dL_law_833 : decode cL_law 833 = .ok (.iconst 0, 1) := dk_3 (dk_at dksL_law_29 20 rfl rfl)
theorem dL_law_834 : decode cL_law 834 = .ok (.invokevirtual 77, 3) := dk_182 0 77 (dk_at dksL_law_29 21 rfl rfl)
theorem dL_law_837 : decode cL_law 837 = .ok (.aload_n 2, 1) := dk_44 (dk_at dksL_law_30 0 rfl rfl)
theorem dL_law_838 : decode cL_law 838 = .ok (.aload_n 0, 1) := dk_42 (dk_at dksL_law_30 1 rfl rfl)
theorem dL_law_839 : decode cL_law 839 = .ok (.iload_n 3, 1) := dk_29 (dk_at dksL_law_30 2 rfl rfl)
theorem dL_law_840 : decode cL_law 840 = .ok (.iconst 1, 1) := dk_4 (dk_at dksL_law_30 3 rfl rfl)
theorem dL_law_841 : decode cL_law 841 = .ok (.iadd, 1) := dk_96 (dk_at dksL_law_30 4 rfl rfl)
theorem dL_law_842 : decode cL_law 842 = .ok (.iaload, 1) := dk_46 (dk_at dksL_law_30 5 rfl rfl)
theorem dL_law_843 : decode cL_law 843 = .ok (.aload_n 0, 1) := dk_42 (dk_at dksL_law_30 6 rfl rfl)
theorem dL_law_844 : decode cL_law 844 = .ok (.iload_n 3, 1) := dk_29 (dk_at dksL_law_30 7 rfl rfl)
theorem dL_law_845 : decode cL_law 845 = .ok (.iconst 2, 1) := dk_5 (dk_at dksL_law_30 8 rfl rfl)
theorem dL_law_846 : decode cL_law 846 = .ok (.iadd, 1) := dk_96 (dk_at dksL_law_30 9 rfl rfl)
theorem dL_law_847 : decode cL_law 847 = .ok (.iaload, 1) := dk_46 (dk_at dksL_law_30 10 rfl rfl)
theorem dL_law_848 : decode cL_law 848 = .ok (.aload_n 0, 1) := dk_42 (dk_at dksL_law_30 11 rfl rfl)
theorem dL_law_849 : decode cL_law 849 = .ok (.iload_n 3, 1) := dk_29 (dk_at dksL_law_30 12 rfl rfl)
theorem dL_law_850 : decode cL_law 850 = .ok (.iconst 3, 1) := dk_6 (dk_at dksL_law_30 13 rfl rfl)
theorem dL_law_851 : decode cL_law 851 = .ok (.iadd, 1) := dk_96 (dk_at dksL_law_30 14 rfl rfl)
theorem dL_law_852 : decode cL_law 852 = .ok (.iaload, 1) := dk_46 (dk_at dksL_law_30 15 rfl rfl)
theorem dL_law_853 : decode cL_law 853 = .ok (.ifCond .eq 7, 3) := dk_153 0 7 (dk_at dksL_law_30 16 rfl rfl)
theorem dL_law_856 : decode cL_law 856 = .ok (.iconst 1, 1) := dk_4 (dk_at dksL_law_30 19 rfl rfl)
theorem dL_law_857 : decode cL_law 857 = .ok (.goto 4, 3) := dk_167 0 4 (dk_at dksL_law_30 20 rfl rfl)
theorem dL_law_860 : decode cL_law 860 = .ok (.iconst 0, 1) := dk_3 (dk_at dksL_law_30 23 rfl rfl)
theorem dL_law_861 : decode cL_law 861 = .ok (.invokevirtual 80, 3) := dk_182 0 80 (dk_at dksL_law_31 0 rfl rfl)
theorem dL_law_864 : decode cL_law 864 = .ok (.if_icmp .eq 581, 3) := dk_159 2 69 (dk_at dksL_law_31 3 rfl rfl)
theorem dL_law_867 : decode cL_law 867 = .ok (.iconst 0, 1) := dk_3 (dk_at dksL_law_31 6 rfl rfl)
theorem dL_law_868 : decode cL_law 868 = .ok (.ireturn, 1) := dk_172 (dk_at dksL_law_31 7 rfl rfl)
theorem dL_law_869 : decode cL_law 869 = .ok (.aload_n 1, 1) := dk_43 (dk_at dksL_law_31 8 rfl rfl)
theorem dL_law_870 : decode cL_law 870 = .ok (.aload_n 0, 1) := dk_42 (dk_at dksL_law_31 9 rfl rfl)
theorem dL_law_871 : decode cL_law 871 = .ok (.iload_n 3, 1) := dk_29 (dk_at dksL_law_31 10 rfl rfl)
theorem dL_law_872 : decode cL_law 872 = .ok (.iconst 1, 1) := dk_4 (dk_at dksL_law_31 11 rfl rfl)
theorem dL_law_873 : decode cL_law 873 = .ok (.iadd, 1) := dk_96 (dk_at dksL_law_31 12 rfl rfl)
theorem dL_law_874 : decode cL_law 874 = .ok (.iaload, 1) := dk_46 (dk_at dksL_law_31 13 rfl rfl)
theorem dL_law_875 : decode cL_law 875 = .ok (.invokevirtual 81, 3) := dk_182 0 81 (dk_at dksL_law_31 14 rfl rfl)
theorem dL_law_878 : decode cL_law 878 = .ok (.aload_n 2, 1) := dk_44 (dk_at dksL_law_31 17 rfl rfl)
theorem dL_law_879 : decode cL_law 879 = .ok (.aload_n 0, 1) := dk_42 (dk_at dksL_law_31 18 rfl rfl)
theorem dL_law_880 : decode cL_law 880 = .ok (.iload_n 3, 1) := dk_29 (dk_at dksL_law_31 19 rfl rfl)
theorem dL_law_881 : decode cL_law 881 = .ok (.iconst 1, 1) := dk_4 (dk_at dksL_law_31 20 rfl rfl)
theorem dL_law_882 : decode cL_law 882 = .ok (.iadd, 1) := dk_96 (dk_at dksL_law_31 21 rfl rfl)
theorem dL_law_883 : decode cL_law 883 = .ok (.iaload, 1) := dk_46 (dk_at dksL_law_31 22 rfl rfl)
theorem dL_law_884 : decode cL_law 884 = .ok (.invokevirtual 84, 3) := dk_182 0 84 (dk_at dksL_law_32 0 rfl rfl)
theorem dL_law_887 : decode cL_law 887 = .ok (.if_icmp .eq 558, 3) := dk_159 2 46 (dk_at dksL_law_32 3 rfl rfl)
theorem dL_law_890 : decode cL_law 890 = .ok (.iconst 0, 1) := dk_3 (dk_at dksL_law_32 6 rfl rfl)
theorem dL_law_891 : decode cL_law 891 = .ok (.ireturn, 1) := dk_172 (dk_at dksL_law_32 7 rfl rfl)
theorem dL_law_892 : decode cL_law 892 = .ok (.aload_n 1, 1) := dk_43 (dk_at dksL_law_32 8 rfl rfl)
theorem dL_law_893 : decode cL_law 893 = .ok (.aload_n 0, 1) := dk_42 (dk_at dksL_law_32 9 rfl rfl)
theorem dL_law_894 : decode cL_law 894 = .ok (.iload_n 3, 1) := dk_29 (dk_at dksL_law_32 10 rfl rfl)
theorem dL_law_895 : decode cL_law 895 = .ok (.iconst 1, 1) := dk_4 (dk_at dksL_law_32 11 rfl rfl)
theorem dL_law_896 : decode cL_law 896 = .ok (.iadd, 1) := dk_96 (dk_at dksL_law_32 12 rfl rfl)
theorem dL_law_897 : decode cL_law 897 = .ok (.iaload, 1) := dk_46 (dk_at dksL_law_32 13 rfl rfl)
theorem dL_law_898 : decode cL_law 898 = .ok (.aload_n 0, 1) := dk_42 (dk_at dksL_law_32 14 rfl rfl)
theorem dL_law_899 : decode cL_law 899 = .ok (.iload_n 3, 1) := dk_29 (dk_at dksL_law_32 15 rfl rfl)
theorem dL_law_900 : decode cL_law 900 = .ok (.iconst 2, 1) := dk_5 (dk_at dksL_law_32 16 rfl rfl)
theorem dL_law_901 : decode cL_law 901 = .ok (.iadd, 1) := dk_96 (dk_at dksL_law_32 17 rfl rfl)
theorem dL_law_902 : decode cL_law 902 = .ok (.iaload, 1) := dk_46 (dk_at dksL_law_32 18 rfl rfl)
theorem dL_law_903 : decode cL_law 903 = .ok (.invokevirtual 85, 3) := dk_182 0 85 (dk_at dksL_law_32 19 rfl rfl)
theorem dL_law_906 : decode cL_law 906 = .ok (.aload_n 2, 1) := dk_44 (dk_at dksL_law_32 22 rfl rfl)
theorem dL_law_907 : decode cL_law 907 = .ok (.aload_n 0, 1) := dk_42 (dk_at dksL_law_32 23 rfl rfl)
theorem dL_law_908 : decode cL_law 908 = .ok (.iload_n 3, 1) := dk_29 (dk_at dksL_law_33 0 rfl rfl)
theorem dL_law_909 : decode cL_law 909 = .ok (.iconst 1, 1) := dk_4 (dk_at dksL_law_33 1 rfl rfl)
theorem dL_law_910 : decode cL_law 910 = .ok (.iadd, 1) := dk_96 (dk_at dksL_law_33 2 rfl rfl)
theorem dL_law_911 : decode cL_law 911 = .ok (.iaload, 1) := dk_46 (dk_at dksL_law_33 3 rfl rfl)
theorem dL_law_912 : decode cL_law 912 = .ok (.aload_n 0, 1) := dk_42 (dk_at dksL_law_33 4 rfl rfl)
theorem dL_law_913 : decode cL_law 913 = .ok (.iload_n 3, 1) := dk_29 (dk_at dksL_law_33 5 rfl rfl)
theorem dL_law_914 : decode cL_law 914 = .ok (.iconst 2, 1) := dk_5 (dk_at dksL_law_33 6 rfl rfl)
theorem dL_law_915 : decode cL_law 915 = .ok (.iadd, 1) := dk_96 (dk_at dksL_law_33 7 rfl rfl)
theorem dL_law_916 : decode cL_law 916 = .ok (.iaload, 1) := dk_46 (dk_at dksL_law_33 8 rfl rfl)
theorem dL_law_917 : decode cL_law 917 = .ok (.invokevirtual 88, 3) := dk_182 0 88 (dk_at dksL_law_33 9 rfl rfl)
theorem dL_law_920 : decode cL_law 920 = .ok (.if_icmp .eq 525, 3) := dk_159 2 13 (dk_at dksL_law_33 12 rfl rfl)
theorem dL_law_923 : decode cL_law 923 = .ok (.iconst 0, 1) := dk_3 (dk_at dksL_law_33 15 rfl rfl)
theorem dL_law_924 : decode cL_law 924 = .ok (.ireturn, 1) := dk_172 (dk_at dksL_law_33 16 rfl rfl)
theorem dL_law_925 : decode cL_law 925 = .ok (.aload_n 1, 1) := dk_43 (dk_at dksL_law_33 17 rfl rfl)
theorem dL_law_926 : decode cL_law 926 = .ok (.aload_n 0, 1) := dk_42 (dk_at dksL_law_33 18 rfl rfl)
theorem dL_law_927 : decode cL_law 927 = .ok (.iload_n 3, 1) := dk_29 (dk_at dksL_law_33 19 rfl rfl)
theorem dL_law_928 : decode cL_law 928 = .ok (.iconst 1, 1) := dk_4 (dk_at dksL_law_33 20 rfl rfl)
theorem dL_law_929 : decode cL_law 929 = .ok (.iadd, 1) := dk_96 (dk_at dksL_law_33 21 rfl rfl)
theorem dL_law_930 : decode cL_law 930 = .ok (.iaload, 1) := dk_46 (dk_at dksL_law_33 22 rfl rfl)
theorem dL_law_931 : decode cL_law 931 = .ok (.invokevirtual 89, 3) := dk_182 0 89 (dk_at dksL_law_34 0 rfl rfl)
theorem dL_law_934 : decode cL_law 934 = .ok (.aload_n 2, 1) := dk_44 (dk_at dksL_law_34 3 rfl rfl)
theorem dL_law_935 : decode cL_law 935 = .ok (.aload_n 0, 1) := dk_42 (dk_at dksL_law_34 4 rfl rfl)
theorem dL_law_936 : decode cL_law 936 = .ok (.iload_n 3, 1) := dk_29 (dk_at dksL_law_34 5 rfl rfl)
theorem dL_law_937 : decode cL_law 937 = .ok (.iconst 1, 1) := dk_4 (dk_at dksL_law_34 6 rfl rfl)
theorem dL_law_938 : decode cL_law 938 = .ok (.iadd, 1) := dk_96 (dk_at dksL_law_34 7 rfl rfl)
theorem dL_law_939 : decode cL_law 939 = .ok (.iaload, 1) := dk_46 (dk_at dksL_law_34 8 rfl rfl)
theorem dL_law_940 : decode cL_law 940 = .ok (.invokevirtual 92, 3) := dk_182 0 92 (dk_at dksL_law_34 9 rfl rfl)
theorem dL_law_943 : decode cL_law 943 = .ok (.if_icmp .eq 502, 3) := dk_159 1 246 (dk_at dksL_law_34 12 rfl rfl)
theorem dL_law_946 : decode cL_law 946 = .ok (.iconst 0, 1) := dk_3 (dk_at dksL_law_34 15 rfl rfl)
theorem dL_law_947 : decode cL_law 947 = .ok (.ireturn, 1) := dk_172 (dk_at dksL_law_34 16 rfl rfl)
theorem dL_law_948 : decode cL_law 948 = .ok (.aload_n 1, 1) := dk_43 (dk_at dksL_law_34 17 rfl rfl)
theorem dL_law_949 : decode cL_law 949 = .ok (.invokevirtual 93, 3) := dk_182 0 93 (dk_at dksL_law_34 18 rfl rfl)
theorem dL_law_952 : decode cL_law 952 = .ok (.aload_n 2, 1) := dk_44 (dk_at dksL_law_34 21 rfl rfl)
theorem dL_law_953 : decode cL_law 953 = .ok (.invokevirtual 97, 3) := dk_182 0 97 (dk_at dksL_law_35 0 rfl rfl)
theorem dL_law_956 : decode cL_law 956 = .ok (.if_icmp .eq 489, 3) := dk_159 1 233 (dk_at dksL_law_35 3 rfl rfl)
theorem dL_law_959 : decode cL_law 959 = .ok (.iconst 0, 1) := dk_3 (dk_at dksL_law_35 6 rfl rfl)
theorem dL_law_960 : decode cL_law 960 = .ok (.ireturn, 1) := dk_172 (dk_at dksL_law_35 7 rfl rfl)
theorem dL_law_961 : decode cL_law 961 = .ok (.aload_n 1, 1) := dk_43 (dk_at dksL_law_35 8 rfl rfl)
theorem dL_law_962 : decode cL_law 962 = .ok (.aload_n 0, 1) := dk_42 (dk_at dksL_law_35 9 rfl rfl)
theorem dL_law_963 : decode cL_law 963 = .ok (.iload_n 3, 1) := dk_29 (dk_at dksL_law_35 10 rfl rfl)
theorem dL_law_964 : decode cL_law 964 = .ok (.iconst 1, 1) := dk_4 (dk_at dksL_law_35 11 rfl rfl)
theorem dL_law_965 : decode cL_law 965 = .ok (.iadd, 1) := dk_96 (dk_at dksL_law_35 12 rfl rfl)
theorem dL_law_966 : decode cL_law 966 = .ok (.iaload, 1) := dk_46 (dk_at dksL_law_35 13 rfl rfl)
theorem dL_law_967 : decode cL_law 967 = .ok (.aload_n 0, 1) := dk_42 (dk_at dksL_law_35 14 rfl rfl)
theorem dL_law_968 : decode cL_law 968 = .ok (.iload_n 3, 1) := dk_29 (dk_at dksL_law_35 15 rfl rfl)
theorem dL_law_969 : decode cL_law 969 = .ok (.iconst 2, 1) := dk_5 (dk_at dksL_law_35 16 rfl rfl)
theorem dL_law_970 : decode cL_law 970 = .ok (.iadd, 1) := dk_96 (dk_at dksL_law_35 17 rfl rfl)
theorem dL_law_971 : decode cL_law 971 = .ok (.iaload, 1) := dk_46 (dk_at dksL_law_35 18 rfl rfl)
theorem dL_law_972 : decode cL_law 972 = .ok (.invokevirtual 98, 3) := dk_182 0 98 (dk_at dksL_law_35 19 rfl rfl)
theorem dL_law_975 : decode cL_law 975 = .ok (.aload_n 2, 1) := dk_44 (dk_at dksL_law_35 22 rfl rfl)
theorem dL_law_976 : decode cL_law 976 = .ok (.aload_n 0, 1) := dk_42 (dk_at dksL_law_35 23 rfl rfl)
theorem dL_law_977 : decode cL_law 977 = .ok (.iload_n 3, 1) := dk_29 (dk_at dksL_law_36 0 rfl rfl)
theorem dL_law_978 : decode cL_law 978 = .ok (.iconst 1, 1) := dk_4 (dk_at dksL_law_36 1 rfl rfl)
theorem dL_law_979 : decode cL_law 979 = .ok (.iadd, 1) := dk_96 (dk_at dksL_law_36 2 rfl rfl)
theorem dL_law_980 : decode cL_law 980 = .ok (.iaload, 1) := dk_46 (dk_at dksL_law_36 3 rfl rfl)
theorem dL_law_981 : decode cL_law 981 = .ok (.aload_n 0, 1) := dk_42 (dk_at dksL_law_36 4 rfl rfl)
theorem dL_law_982 : decode cL_law 982 = .ok (.iload_n 3, 1) := dk_29 (dk_at dksL_law_36 5 rfl rfl)
theorem dL_law_983 : decode cL_law 983 = .ok (.iconst 2, 1) := dk_5 (dk_at dksL_law_36 6 rfl rfl)
theorem dL_law_984 : decode cL_law 984 = .ok (.iadd, 1) := dk_96 (dk_at dksL_law_36 7 rfl rfl)
theorem dL_law_985 : decode cL_law 985 = .ok (.iaload, 1) := dk_46 (dk_at dksL_law_36 8 rfl rfl)
theorem dL_law_986 : decode cL_law 986 = .ok (.invokevirtual 101, 3) := dk_182 0 101 (dk_at dksL_law_36 9 rfl rfl)
theorem dL_law_989 : decode cL_law 989 = .ok (.if_icmp .eq 456, 3) := dk_159 1 200 (dk_at dksL_law_36 12 rfl rfl)
theorem dL_law_992 : decode cL_law 992 = .ok (.iconst 0, 1) := dk_3 (dk_at dksL_law_36 15 rfl rfl)
theorem dL_law_993 : decode cL_law 993 = .ok (.ireturn, 1) := dk_172 (dk_at dksL_law_36 16 rfl rfl)
theorem dL_law_994 : decode cL_law 994 = .ok (.aload_n 1, 1) := dk_43 (dk_at dksL_law_36 17 rfl rfl)
theorem dL_law_995 : decode cL_law 995 = .ok (.aload_n 0, 1) := dk_42 (dk_at dksL_law_36 18 rfl rfl)
theorem dL_law_996 : decode cL_law 996 = .ok (.iload_n 3, 1) := dk_29 (dk_at dksL_law_36 19 rfl rfl)
theorem dL_law_997 : decode cL_law 997 = .ok (.iconst 1, 1) := dk_4 (dk_at dksL_law_36 20 rfl rfl)
theorem dL_law_998 : decode cL_law 998 = .ok (.iadd, 1) := dk_96 (dk_at dksL_law_36 21 rfl rfl)
theorem dL_law_999 : decode cL_law 999 = .ok (.iaload, 1) := dk_46 (dk_at dksL_law_36 22 rfl rfl)
theorem dL_law_1000 : decode cL_law 1000 = .ok (.aload_n 0, 1) := dk_42 (dk_at dksL_law_36 23 rfl rfl)
theorem dL_law_1001 : decode cL_law 1001 = .ok (.iload_n 3, 1) := dk_29 (dk_at dksL_law_37 0 rfl rfl)
theorem dL_law_1002 : decode cL_law 1002 = .ok (.iconst 2, 1) := dk_5 (dk_at dksL_law_37 1 rfl rfl)
theorem dL_law_1003 : decode cL_law 1003 = .ok (.iadd, 1) := dk_96 (dk_at dksL_law_37 2 rfl rfl)
theorem dL_law_1004 : decode cL_law 1004 = .ok (.iaload, 1) := dk_46 (dk_at dksL_law_37 3 rfl rfl)
theorem dL_law_1005 : decode cL_law 1005 = .ok (.aload_n 0, 1) := dk_42 (dk_at dksL_law_37 4 rfl rfl)
theorem dL_law_1006 : decode cL_law 1006 = .ok (.iload_n 3, 1) := dk_29 (dk_at dksL_law_37 5 rfl rfl)
theorem dL_law_1007 : decode cL_law 1007 = .ok (.iconst 3, 1) := dk_6 (dk_at dksL_law_37 6 rfl rfl)
theorem dL_law_1008 : decode cL_law 1008 = .ok (.iadd, 1) := dk_96 (dk_at dksL_law_37 7 rfl rfl)
theorem dL_law_1009 : decode cL_law 1009 = .ok (.iaload, 1) := dk_46 (dk_at dksL_law_37 8 rfl rfl)
theorem dL_law_1010 : decode cL_law 1010 = .ok (.invokevirtual 102, 3) := dk_182 0 102 (dk_at dksL_law_37 9 rfl rfl)
theorem dL_law_1013 : decode cL_law 1013 = .ok (.aload_n 2, 1) := dk_44 (dk_at dksL_law_37 12 rfl rfl)
theorem dL_law_1014 : decode cL_law 1014 = .ok (.aload_n 0, 1) := dk_42 (dk_at dksL_law_37 13 rfl rfl)
theorem dL_law_1015 : decode cL_law 1015 = .ok (.iload_n 3, 1) := dk_29 (dk_at dksL_law_37 14 rfl rfl)
theorem dL_law_1016 : decode cL_law 1016 = .ok (.iconst 1, 1) := dk_4 (dk_at dksL_law_37 15 rfl rfl)
theorem dL_law_1017 : decode cL_law 1017 = .ok (.iadd, 1) := dk_96 (dk_at dksL_law_37 16 rfl rfl)
theorem dL_law_1018 : decode cL_law 1018 = .ok (.iaload, 1) := dk_46 (dk_at dksL_law_37 17 rfl rfl)
theorem dL_law_1019 : decode cL_law 1019 = .ok (.aload_n 0, 1) := dk_42 (dk_at dksL_law_37 18 rfl rfl)
theorem dL_law_1020 : decode cL_law 1020 = .ok (.iload_n 3, 1) := dk_29 (dk_at dksL_law_37 19 rfl rfl)
theorem dL_law_1021 : decode cL_law 1021 = .ok (.iconst 2, 1) := dk_5 (dk_at dksL_law_37 20 rfl rfl)
theorem dL_law_1022 : decode cL_law 1022 = .ok (.iadd, 1) := dk_96 (dk_at dksL_law_37 21 rfl rfl)
theorem dL_law_1023 : decode cL_law 1023 = .ok (.iaload, 1) := dk_46 (dk_at dksL_law_37 22 rfl rfl)
theorem dL_law_1024 : decode cL_law 1024 = .ok (.aload_n 0, 1) := dk_42 (dk_at dksL_law_37 23 rfl rfl)
theorem dL_law_1025 : decode cL_law 1025 = .ok (.iload_n 3, 1) := dk_29 (dk_at dksL_law_38 0 rfl rfl)
theorem dL_law_1026 : decode cL_law 1026 = .ok (.iconst 3, 1) := dk_6 (dk_at dksL_law_38 1 rfl rfl)
theorem dL_law_1027 : decode cL_law 1027 = .ok (.iadd, 1) := dk_96 (dk_at dksL_law_38 2 rfl rfl)
theorem dL_law_1028 : decode cL_law 1028 = .ok (.iaload, 1) := dk_46 (dk_at dksL_law_38 3 rfl rfl)
theorem dL_law_1029 : decode cL_law 1029 = .ok (.invokevirtual 105, 3) := dk_182 0 105 (dk_at dksL_law_38 4 rfl rfl)
theorem dL_law_1032 : decode cL_law 1032 = .ok (.if_icmp .eq 413, 3) := dk_159 1 157 (dk_at dksL_law_38 7 rfl rfl)
theorem dL_law_1035 : decode cL_law 1035 = .ok (.iconst 0, 1) := dk_3 (dk_at dksL_law_38 10 rfl rfl)
theorem dL_law_1036 : decode cL_law 1036 = .ok (.ireturn, 1) := dk_172 (dk_at dksL_law_38 11 rfl rfl)
theorem dL_law_1037 : decode cL_law 1037 = .ok (.aload_n 1, 1) := dk_43 (dk_at dksL_law_38 12 rfl rfl)
theorem dL_law_1038 : decode cL_law 1038 = .ok (.aload_n 0, 1) := dk_42 (dk_at dksL_law_38 13 rfl rfl)
theorem dL_law_1039 : decode cL_law 1039 = .ok (.iload_n 3, 1) := dk_29 (dk_at dksL_law_38 14 rfl rfl)
theorem dL_law_1040 : decode cL_law 1040 = .ok (.iconst 1, 1) := dk_4 (dk_at dksL_law_38 15 rfl rfl)
theorem dL_law_1041 : decode cL_law 1041 = .ok (.iadd, 1) := dk_96 (dk_at dksL_law_38 16 rfl rfl)
theorem dL_law_1042 : decode cL_law 1042 = .ok (.iaload, 1) := dk_46 (dk_at dksL_law_38 17 rfl rfl)
theorem dL_law_1043 : decode cL_law 1043 = .ok (.aload_n 0, 1) := dk_42 (dk_at dksL_law_38 18 rfl rfl)
theorem dL_law_1044 : decode cL_law 1044 = .ok (.iload_n 3, 1) := dk_29 (dk_at dksL_law_38 19 rfl rfl)
theorem dL_law_1045 : decode cL_law 1045 = .ok (.iconst 2, 1) := dk_5 (dk_at dksL_law_38 20 rfl rfl)
theorem dL_law_1046 : decode cL_law 1046 = .ok (.iadd, 1) := dk_96 (dk_at dksL_law_38 21 rfl rfl)
theorem dL_law_1047 : decode cL_law 1047 = .ok (.iaload, 1) := dk_46 (dk_at dksL_law_38 22 rfl rfl)
theorem dL_law_1048 : decode cL_law 1048 = .ok (.invokevirtual 106, 3) := dk_182 0 106 (dk_at dksL_law_39 0 rfl rfl)
theorem dL_law_1051 : decode cL_law 1051 = .ok (.aload_n 2, 1) := dk_44 (dk_at dksL_law_39 3 rfl rfl)
theorem dL_law_1052 : decode cL_law 1052 = .ok (.aload_n 0, 1) := dk_42 (dk_at dksL_law_39 4 rfl rfl)
theorem dL_law_1053 : decode cL_law 1053 = .ok (.iload_n 3, 1) := dk_29 (dk_at dksL_law_39 5 rfl rfl)
theorem dL_law_1054 : decode cL_law 1054 = .ok (.iconst 1, 1) := dk_4 (dk_at dksL_law_39 6 rfl rfl)
theorem dL_law_1055 : decode cL_law 1055 = .ok (.iadd, 1) := dk_96 (dk_at dksL_law_39 7 rfl rfl)
theorem dL_law_1056 : decode cL_law 1056 = .ok (.iaload, 1) := dk_46 (dk_at dksL_law_39 8 rfl rfl)
theorem dL_law_1057 : decode cL_law 1057 = .ok (.aload_n 0, 1) := dk_42 (dk_at dksL_law_39 9 rfl rfl)
theorem dL_law_1058 : decode cL_law 1058 = .ok (.iload_n 3, 1) := dk_29 (dk_at dksL_law_39 10 rfl rfl)
theorem dL_law_1059 : decode cL_law 1059 = .ok (.iconst 2, 1) := dk_5 (dk_at dksL_law_39 11 rfl rfl)
theorem dL_law_1060 : decode cL_law 1060 = .ok (.iadd, 1) := dk_96 (dk_at dksL_law_39 12 rfl rfl)
theorem dL_law_1061 : decode cL_law 1061 = .ok (.iaload, 1) := dk_46 (dk_at dksL_law_39 13 rfl rfl)
theorem dL_law_1062 : decode cL_law 1062 = .ok (.invokevirtual 109, 3) := dk_182 0 109 (dk_at dksL_law_39 14 rfl rfl)
theorem dL_law_1065 : decode cL_law 1065 = .ok (.if_icmp .eq 380, 3) := dk_159 1 124 (dk_at dksL_law_39 17 rfl rfl)
theorem dL_law_1068 : decode cL_law 1068 = .ok (.iconst 0, 1) := dk_3 (dk_at dksL_law_39 20 rfl rfl)
theorem dL_law_1069 : decode cL_law 1069 = .ok (.ireturn, 1) := dk_172 (dk_at dksL_law_39 21 rfl rfl)
theorem dL_law_1070 : decode cL_law 1070 = .ok (.aload_n 1, 1) := dk_43 (dk_at dksL_law_39 22 rfl rfl)
theorem dL_law_1071 : decode cL_law 1071 = .ok (.aload_n 0, 1) := dk_42 (dk_at dksL_law_39 23 rfl rfl)
theorem dL_law_1072 : decode cL_law 1072 = .ok (.iload_n 3, 1) := dk_29 (dk_at dksL_law_40 0 rfl rfl)
theorem dL_law_1073 : decode cL_law 1073 = .ok (.iconst 1, 1) := dk_4 (dk_at dksL_law_40 1 rfl rfl)
theorem dL_law_1074 : decode cL_law 1074 = .ok (.iadd, 1) := dk_96 (dk_at dksL_law_40 2 rfl rfl)
theorem dL_law_1075 : decode cL_law 1075 = .ok (.iaload, 1) := dk_46 (dk_at dksL_law_40 3 rfl rfl)
theorem dL_law_1076 : decode cL_law 1076 = .ok (.aload_n 0, 1) := dk_42 (dk_at dksL_law_40 4 rfl rfl)
theorem dL_law_1077 : decode cL_law 1077 = .ok (.iload_n 3, 1) := dk_29 (dk_at dksL_law_40 5 rfl rfl)
theorem dL_law_1078 : decode cL_law 1078 = .ok (.iconst 2, 1) := dk_5 (dk_at dksL_law_40 6 rfl rfl)
theorem dL_law_1079 : decode cL_law 1079 = .ok (.iadd, 1) := dk_96 (dk_at dksL_law_40 7 rfl rfl)
theorem dL_law_1080 : decode cL_law 1080 = .ok (.iaload, 1) := dk_46 (dk_at dksL_law_40 8 rfl rfl)
theorem dL_law_1081 : decode cL_law 1081 = .ok (.invokevirtual 110, 3) := dk_182 0 110 (dk_at dksL_law_40 9 rfl rfl)
theorem dL_law_1084 : decode cL_law 1084 = .ok (.aload_n 2, 1) := dk_44 (dk_at dksL_law_40 12 rfl rfl)
theorem dL_law_1085 : decode cL_law 1085 = .ok (.aload_n 0, 1) := dk_42 (dk_at dksL_law_40 13 rfl rfl)
theorem dL_law_1086 : decode cL_law 1086 = .ok (.iload_n 3, 1) := dk_29 (dk_at dksL_law_40 14 rfl rfl)
theorem dL_law_1087 : decode cL_law 1087 = .ok (.iconst 1, 1) := dk_4 (dk_at dksL_law_40 15 rfl rfl)
theorem dL_law_1088 : decode cL_law 1088 = .ok (.iadd, 1) := dk_96 (dk_at dksL_law_40 16 rfl rfl)
theorem dL_law_1089 : decode cL_law 1089 = .ok (.iaload, 1) := dk_46 (dk_at dksL_law_40 17 rfl rfl)
theorem dL_law_1090 : decode cL_law 1090 = .ok (.aload_n 0, 1) := dk_42 (dk_at dksL_law_40 18 rfl rfl)
theorem dL_law_1091 : decode cL_law 1091 = .ok (.iload_n 3, 1) := dk_29 (dk_at dksL_law_40 19 rfl rfl)
theorem dL_law_1092 : decode cL_law 1092 = .ok (.iconst 2, 1) := dk_5 (dk_at dksL_law_40 20 rfl rfl)
theorem dL_law_1093 : decode cL_law 1093 = .ok (.iadd, 1) := dk_96 (dk_at dksL_law_40 21 rfl rfl)
theorem dL_law_1094 : decode cL_law 1094 = .ok (.iaload, 1) := dk_46 (dk_at dksL_law_40 22 rfl rfl)
theorem dL_law_1095 : decode cL_law 1095 = .ok (.invokevirtual 113, 3) := dk_182 0 113 (dk_at dksL_law_41 0 rfl rfl)
theorem dL_law_1098 : decode cL_law 1098 = .ok (.if_icmp .eq 347, 3) := dk_159 1 91 (dk_at dksL_law_41 3 rfl rfl)
theorem dL_law_1101 : decode cL_law 1101 = .ok (.iconst 0, 1) := dk_3 (dk_at dksL_law_41 6 rfl rfl)
theorem dL_law_1102 : decode cL_law 1102 = .ok (.ireturn, 1) := dk_172 (dk_at dksL_law_41 7 rfl rfl)
theorem dL_law_1103 : decode cL_law 1103 = .ok (.aload_n 1, 1) := dk_43 (dk_at dksL_law_41 8 rfl rfl)
theorem dL_law_1104 : decode cL_law 1104 = .ok (.aload_n 0, 1) := dk_42 (dk_at dksL_law_41 9 rfl rfl)
theorem dL_law_1105 : decode cL_law 1105 = .ok (.iload_n 3, 1) := dk_29 (dk_at dksL_law_41 10 rfl rfl)
theorem dL_law_1106 : decode cL_law 1106 = .ok (.iconst 1, 1) := dk_4 (dk_at dksL_law_41 11 rfl rfl)
theorem dL_law_1107 : decode cL_law 1107 = .ok (.iadd, 1) := dk_96 (dk_at dksL_law_41 12 rfl rfl)
theorem dL_law_1108 : decode cL_law 1108 = .ok (.iaload, 1) := dk_46 (dk_at dksL_law_41 13 rfl rfl)
theorem dL_law_1109 : decode cL_law 1109 = .ok (.aload_n 0, 1) := dk_42 (dk_at dksL_law_41 14 rfl rfl)
theorem dL_law_1110 : decode cL_law 1110 = .ok (.iload_n 3, 1) := dk_29 (dk_at dksL_law_41 15 rfl rfl)
theorem dL_law_1111 : decode cL_law 1111 = .ok (.iconst 2, 1) := dk_5 (dk_at dksL_law_41 16 rfl rfl)
theorem dL_law_1112 : decode cL_law 1112 = .ok (.iadd, 1) := dk_96 (dk_at dksL_law_41 17 rfl rfl)
theorem dL_law_1113 : decode cL_law 1113 = .ok (.iaload, 1) := dk_46 (dk_at dksL_law_41 18 rfl rfl)
theorem dL_law_1114 : decode cL_law 1114 = .ok (.invokevirtual 114, 3) := dk_182 0 114 (dk_at dksL_law_41 19 rfl rfl)
theorem dL_law_1117 : decode cL_law 1117 = .ok (.aload_n 2, 1) := dk_44 (dk_at dksL_law_41 22 rfl rfl)
theorem dL_law_1118 : decode cL_law 1118 = .ok (.aload_n 0, 1) := dk_42 (dk_at dksL_law_41 23 rfl rfl)
theorem dL_law_1119 : decode cL_law 1119 = .ok (.iload_n 3, 1) := dk_29 (dk_at dksL_law_42 0 rfl rfl)
theorem dL_law_1120 : decode cL_law 1120 = .ok (.iconst 1, 1) := dk_4 (dk_at dksL_law_42 1 rfl rfl)
theorem dL_law_1121 : decode cL_law 1121 = .ok (.iadd, 1) := dk_96 (dk_at dksL_law_42 2 rfl rfl)
theorem dL_law_1122 : decode cL_law 1122 = .ok (.iaload, 1) := dk_46 (dk_at dksL_law_42 3 rfl rfl)
theorem dL_law_1123 : decode cL_law 1123 = .ok (.aload_n 0, 1) := dk_42 (dk_at dksL_law_42 4 rfl rfl)
theorem dL_law_1124 : decode cL_law 1124 = .ok (.iload_n 3, 1) := dk_29 (dk_at dksL_law_42 5 rfl rfl)
theorem dL_law_1125 : decode cL_law 1125 = .ok (.iconst 2, 1) := dk_5 (dk_at dksL_law_42 6 rfl rfl)
theorem dL_law_1126 : decode cL_law 1126 = .ok (.iadd, 1) := dk_96 (dk_at dksL_law_42 7 rfl rfl)
theorem dL_law_1127 : decode cL_law 1127 = .ok (.iaload, 1) := dk_46 (dk_at dksL_law_42 8 rfl rfl)
theorem dL_law_1128 : decode cL_law 1128 = .ok (.invokevirtual 117, 3) := dk_182 0 117 (dk_at dksL_law_42 9 rfl rfl)
theorem dL_law_1131 : decode cL_law 1131 = .ok (.if_icmp .eq 314, 3) := dk_159 1 58 (dk_at dksL_law_42 12 rfl rfl)
theorem dL_law_1134 : decode cL_law 1134 = .ok (.iconst 0, 1) := dk_3 (dk_at dksL_law_42 15 rfl rfl)
theorem dL_law_1135 : decode cL_law 1135 = .ok (.ireturn, 1) := dk_172 (dk_at dksL_law_42 16 rfl rfl)
theorem dL_law_1136 : decode cL_law 1136 = .ok (.aload_n 1, 1) := dk_43 (dk_at dksL_law_42 17 rfl rfl)
theorem dL_law_1137 : decode cL_law 1137 = .ok (.aload_n 0, 1) := dk_42 (dk_at dksL_law_42 18 rfl rfl)
theorem dL_law_1138 : decode cL_law 1138 = .ok (.iload_n 3, 1) := dk_29 (dk_at dksL_law_42 19 rfl rfl)
theorem dL_law_1139 : decode cL_law 1139 = .ok (.iconst 1, 1) := dk_4 (dk_at dksL_law_42 20 rfl rfl)
theorem dL_law_1140 : decode cL_law 1140 = .ok (.iadd, 1) := dk_96 (dk_at dksL_law_42 21 rfl rfl)
theorem dL_law_1141 : decode cL_law 1141 = .ok (.iaload, 1) := dk_46 (dk_at dksL_law_42 22 rfl rfl)
theorem dL_law_1142 : decode cL_law 1142 = .ok (.invokevirtual 118, 3) := dk_182 0 118 (dk_at dksL_law_43 0 rfl rfl)
theorem dL_law_1145 : decode cL_law 1145 = .ok (.aload_n 2, 1) := dk_44 (dk_at dksL_law_43 3 rfl rfl)
theorem dL_law_1146 : decode cL_law 1146 = .ok (.aload_n 0, 1) := dk_42 (dk_at dksL_law_43 4 rfl rfl)
theorem dL_law_1147 : decode cL_law 1147 = .ok (.iload_n 3, 1) := dk_29 (dk_at dksL_law_43 5 rfl rfl)
theorem dL_law_1148 : decode cL_law 1148 = .ok (.iconst 1, 1) := dk_4 (dk_at dksL_law_43 6 rfl rfl)
theorem dL_law_1149 : decode cL_law 1149 = .ok (.iadd, 1) := dk_96 (dk_at dksL_law_43 7 rfl rfl)
theorem dL_law_1150 : decode cL_law 1150 = .ok (.iaload, 1) := dk_46 (dk_at dksL_law_43 8 rfl rfl)
theorem dL_law_1151 : decode cL_law 1151 = .ok (.invokevirtual 121, 3) := dk_182 0 121 (dk_at dksL_law_43 9 rfl rfl)
theorem dL_law_1154 : decode cL_law 1154 = .ok (.if_icmp .eq 291, 3) := dk_159 1 35 (dk_at dksL_law_43 12 rfl rfl)
theorem dL_law_1157 : decode cL_law 1157 = .ok (.iconst 0, 1) := dk_3 (dk_at dksL_law_43 15 rfl rfl)
theorem dL_law_1158 : decode cL_law 1158 = .ok (.ireturn, 1) := dk_172 (dk_at dksL_law_43 16 rfl rfl)
theorem dL_law_1159 : decode cL_law 1159 = .ok (.aload_n 1, 1) := dk_43 (dk_at dksL_law_43 17 rfl rfl)
theorem dL_law_1160 : decode cL_law 1160 = .ok (.aload_n 0, 1) := dk_42 (dk_at dksL_law_43 18 rfl rfl)
theorem dL_law_1161 : decode cL_law 1161 = .ok (.iload_n 3, 1) := dk_29 (dk_at dksL_law_43 19 rfl rfl)
theorem dL_law_1162 : decode cL_law 1162 = .ok (.iconst 1, 1) := dk_4 (dk_at dksL_law_43 20 rfl rfl)
theorem dL_law_1163 : decode cL_law 1163 = .ok (.iadd, 1) := dk_96 (dk_at dksL_law_43 21 rfl rfl)
theorem dL_law_1164 : decode cL_law 1164 = .ok (.iaload, 1) := dk_46 (dk_at dksL_law_43 22 rfl rfl)
theorem dL_law_1165 : decode cL_law 1165 = .ok (.aload_n 0, 1) := dk_42 (dk_at dksL_law_43 23 rfl rfl)
theorem dL_law_1166 : decode cL_law 1166 = .ok (.iload_n 3, 1) := dk_29 (dk_at dksL_law_44 0 rfl rfl)
theorem dL_law_1167 : decode cL_law 1167 = .ok (.iconst 2, 1) := dk_5 (dk_at dksL_law_44 1 rfl rfl)
theorem dL_law_1168 : decode cL_law 1168 = .ok (.iadd, 1) := dk_96 (dk_at dksL_law_44 2 rfl rfl)
theorem dL_law_1169 : decode cL_law 1169 = .ok (.iaload, 1) := dk_46 (dk_at dksL_law_44 3 rfl rfl)
theorem dL_law_1170 : decode cL_law 1170 = .ok (.invokevirtual 122, 3) := dk_182 0 122 (dk_at dksL_law_44 4 rfl rfl)
theorem dL_law_1173 : decode cL_law 1173 = .ok (.aload_n 2, 1) := dk_44 (dk_at dksL_law_44 7 rfl rfl)
theorem dL_law_1174 : decode cL_law 1174 = .ok (.aload_n 0, 1) := dk_42 (dk_at dksL_law_44 8 rfl rfl)
theorem dL_law_1175 : decode cL_law 1175 = .ok (.iload_n 3, 1) := dk_29 (dk_at dksL_law_44 9 rfl rfl)
theorem dL_law_1176 : decode cL_law 1176 = .ok (.iconst 1, 1) := dk_4 (dk_at dksL_law_44 10 rfl rfl)
theorem dL_law_1177 : decode cL_law 1177 = .ok (.iadd, 1) := dk_96 (dk_at dksL_law_44 11 rfl rfl)
theorem dL_law_1178 : decode cL_law 1178 = .ok (.iaload, 1) := dk_46 (dk_at dksL_law_44 12 rfl rfl)
theorem dL_law_1179 : decode cL_law 1179 = .ok (.aload_n 0, 1) := dk_42 (dk_at dksL_law_44 13 rfl rfl)
theorem dL_law_1180 : decode cL_law 1180 = .ok (.iload_n 3, 1) := dk_29 (dk_at dksL_law_44 14 rfl rfl)
theorem dL_law_1181 : decode cL_law 1181 = .ok (.iconst 2, 1) := dk_5 (dk_at dksL_law_44 15 rfl rfl)
theorem dL_law_1182 : decode cL_law 1182 = .ok (.iadd, 1) := dk_96 (dk_at dksL_law_44 16 rfl rfl)
theorem dL_law_1183 : decode cL_law 1183 = .ok (.iaload, 1) := dk_46 (dk_at dksL_law_44 17 rfl rfl)
theorem dL_law_1184 : decode cL_law 1184 = .ok (.invokevirtual 125, 3) := dk_182 0 125 (dk_at dksL_law_44 18 rfl rfl)
theorem dL_law_1187 : decode cL_law 1187 = .ok (.if_icmp .eq 258, 3) := dk_159 1 2 (dk_at dksL_law_44 21 rfl rfl)
theorem dL_law_1190 : decode cL_law 1190 = .ok (.iconst 0, 1) := dk_3 (dk_at dksL_law_45 0 rfl rfl)
theorem dL_law_1191 : decode cL_law 1191 = .ok (.ireturn, 1) := dk_172 (dk_at dksL_law_45 1 rfl rfl)
theorem dL_law_1192 : decode cL_law 1192 = .ok (.aload_n 1, 1) := dk_43 (dk_at dksL_law_45 2 rfl rfl)
theorem dL_law_1193 : decode cL_law 1193 = .ok (.aload_n 0, 1) := dk_42 (dk_at dksL_law_45 3 rfl rfl)
theorem dL_law_1194 : decode cL_law 1194 = .ok (.iload_n 3, 1) := dk_29 (dk_at dksL_law_45 4 rfl rfl)
theorem dL_law_1195 : decode cL_law 1195 = .ok (.iconst 1, 1) := dk_4 (dk_at dksL_law_45 5 rfl rfl)
theorem dL_law_1196 : decode cL_law 1196 = .ok (.iadd, 1) := dk_96 (dk_at dksL_law_45 6 rfl rfl)
theorem dL_law_1197 : decode cL_law 1197 = .ok (.iaload, 1) := dk_46 (dk_at dksL_law_45 7 rfl rfl)
theorem dL_law_1198 : decode cL_law 1198 = .ok (.aload_n 0, 1) := dk_42 (dk_at dksL_law_45 8 rfl rfl)
theorem dL_law_1199 : decode cL_law 1199 = .ok (.iload_n 3, 1) := dk_29 (dk_at dksL_law_45 9 rfl rfl)
theorem dL_law_1200 : decode cL_law 1200 = .ok (.iconst 2, 1) := dk_5 (dk_at dksL_law_45 10 rfl rfl)
theorem dL_law_1201 : decode cL_law 1201 = .ok (.iadd, 1) := dk_96 (dk_at dksL_law_45 11 rfl rfl)
theorem dL_law_1202 : decode cL_law 1202 = .ok (.iaload, 1) := dk_46 (dk_at dksL_law_45 12 rfl rfl)
theorem dL_law_1203 : decode cL_law 1203 = .ok (.invokevirtual 126, 3) := dk_182 0 126 (dk_at dksL_law_45 13 rfl rfl)
theorem dL_law_1206 : decode cL_law 1206 = .ok (.aload_n 2, 1) := dk_44 (dk_at dksL_law_45 16 rfl rfl)
theorem dL_law_1207 : decode cL_law 1207 = .ok (.aload_n 0, 1) := dk_42 (dk_at dksL_law_45 17 rfl rfl)
theorem dL_law_1208 : decode cL_law 1208 = .ok (.iload_n 3, 1) := dk_29 (dk_at dksL_law_45 18 rfl rfl)
theorem dL_law_1209 : decode cL_law 1209 = .ok (.iconst 1, 1) := dk_4 (dk_at dksL_law_45 19 rfl rfl)
theorem dL_law_1210 : decode cL_law 1210 = .ok (.iadd, 1) := dk_96 (dk_at dksL_law_45 20 rfl rfl)
theorem dL_law_1211 : decode cL_law 1211 = .ok (.iaload, 1) := dk_46 (dk_at dksL_law_45 21 rfl rfl)
theorem dL_law_1212 : decode cL_law 1212 = .ok (.aload_n 0, 1) := dk_42 (dk_at dksL_law_45 22 rfl rfl)
theorem dL_law_1213 : decode cL_law 1213 = .ok (.iload_n 3, 1) := dk_29 (dk_at dksL_law_45 23 rfl rfl)
theorem dL_law_1214 : decode cL_law 1214 = .ok (.iconst 2, 1) := dk_5 (dk_at dksL_law_46 0 rfl rfl)
theorem dL_law_1215 : decode cL_law 1215 = .ok (.iadd, 1) := dk_96 (dk_at dksL_law_46 1 rfl rfl)
theorem dL_law_1216 : decode cL_law 1216 = .ok (.iaload, 1) := dk_46 (dk_at dksL_law_46 2 rfl rfl)
theorem dL_law_1217 : decode cL_law 1217 = .ok (.invokevirtual 129, 3) := dk_182 0 129 (dk_at dksL_law_46 3 rfl rfl)
theorem dL_law_1220 : decode cL_law 1220 = .ok (.if_icmp .eq 225, 3) := dk_159 0 225 (dk_at dksL_law_46 6 rfl rfl)
theorem dL_law_1223 : decode cL_law 1223 = .ok (.iconst 0, 1) := dk_3 (dk_at dksL_law_46 9 rfl rfl)
theorem dL_law_1224 : decode cL_law 1224 = .ok (.ireturn, 1) := dk_172 (dk_at dksL_law_46 10 rfl rfl)
theorem dL_law_1225 : decode cL_law 1225 = .ok (.aload_n 1, 1) := dk_43 (dk_at dksL_law_46 11 rfl rfl)
theorem dL_law_1226 : decode cL_law 1226 = .ok (.aload_n 0, 1) := dk_42 (dk_at dksL_law_46 12 rfl rfl)
theorem dL_law_1227 : decode cL_law 1227 = .ok (.iload_n 3, 1) := dk_29 (dk_at dksL_law_46 13 rfl rfl)
theorem dL_law_1228 : decode cL_law 1228 = .ok (.iconst 1, 1) := dk_4 (dk_at dksL_law_46 14 rfl rfl)
theorem dL_law_1229 : decode cL_law 1229 = .ok (.iadd, 1) := dk_96 (dk_at dksL_law_46 15 rfl rfl)
theorem dL_law_1230 : decode cL_law 1230 = .ok (.iaload, 1) := dk_46 (dk_at dksL_law_46 16 rfl rfl)
theorem dL_law_1231 : decode cL_law 1231 = .ok (.aload_n 0, 1) := dk_42 (dk_at dksL_law_46 17 rfl rfl)
theorem dL_law_1232 : decode cL_law 1232 = .ok (.iload_n 3, 1) := dk_29 (dk_at dksL_law_46 18 rfl rfl)
theorem dL_law_1233 : decode cL_law 1233 = .ok (.iconst 2, 1) := dk_5 (dk_at dksL_law_46 19 rfl rfl)
theorem dL_law_1234 : decode cL_law 1234 = .ok (.iadd, 1) := dk_96 (dk_at dksL_law_46 20 rfl rfl)
theorem dL_law_1235 : decode cL_law 1235 = .ok (.iaload, 1) := dk_46 (dk_at dksL_law_46 21 rfl rfl)
theorem dL_law_1236 : decode cL_law 1236 = .ok (.invokevirtual 130, 3) := dk_182 0 130 (dk_at dksL_law_47 0 rfl rfl)
theorem dL_law_1239 : decode cL_law 1239 = .ok (.aload_n 2, 1) := dk_44 (dk_at dksL_law_47 3 rfl rfl)
theorem dL_law_1240 : decode cL_law 1240 = .ok (.aload_n 0, 1) := dk_42 (dk_at dksL_law_47 4 rfl rfl)
theorem dL_law_1241 : decode cL_law 1241 = .ok (.iload_n 3, 1) := dk_29 (dk_at dksL_law_47 5 rfl rfl)
theorem dL_law_1242 : decode cL_law 1242 = .ok (.iconst 1, 1) := dk_4 (dk_at dksL_law_47 6 rfl rfl)
theorem dL_law_1243 : decode cL_law 1243 = .ok (.iadd, 1) := dk_96 (dk_at dksL_law_47 7 rfl rfl)
theorem dL_law_1244 : decode cL_law 1244 = .ok (.iaload, 1) := dk_46 (dk_at dksL_law_47 8 rfl rfl)
theorem dL_law_1245 : decode cL_law 1245 = .ok (.aload_n 0, 1) := dk_42 (dk_at dksL_law_47 9 rfl rfl)
theorem dL_law_1246 : decode cL_law 1246 = .ok (.iload_n 3, 1) := dk_29 (dk_at dksL_law_47 10 rfl rfl)
theorem dL_law_1247 : decode cL_law 1247 = .ok (.iconst 2, 1) := dk_5 (dk_at dksL_law_47 11 rfl rfl)
theorem dL_law_1248 : decode cL_law 1248 = .ok (.iadd, 1) := dk_96 (dk_at dksL_law_47 12 rfl rfl)
theorem dL_law_1249 : decode cL_law 1249 = .ok (.iaload, 1) := dk_46 (dk_at dksL_law_47 13 rfl rfl)
theorem dL_law_1250 : decode cL_law 1250 = .ok (.invokevirtual 133, 3) := dk_182 0 133 (dk_at dksL_law_47 14 rfl rfl)
theorem dL_law_1253 : decode cL_law 1253 = .ok (.if_icmp .eq 192, 3) := dk_159 0 192 (dk_at dksL_law_47 17 rfl rfl)
theorem dL_law_1256 : decode cL_law 1256 = .ok (.iconst 0, 1) := dk_3 (dk_at dksL_law_47 20 rfl rfl)
theorem dL_law_1257 : decode cL_law 1257 = .ok (.ireturn, 1) := dk_172 (dk_at dksL_law_47 21 rfl rfl)
theorem dL_law_1258 : decode cL_law 1258 = .ok (.aload_n 1, 1) := dk_43 (dk_at dksL_law_47 22 rfl rfl)
theorem dL_law_1259 : decode cL_law 1259 = .ok (.aload_n 0, 1) := dk_42 (dk_at dksL_law_47 23 rfl rfl)
theorem dL_law_1260 : decode cL_law 1260 = .ok (.iload_n 3, 1) := dk_29 (dk_at dksL_law_48 0 rfl rfl)
theorem dL_law_1261 : decode cL_law 1261 = .ok (.iconst 1, 1) := dk_4 (dk_at dksL_law_48 1 rfl rfl)
theorem dL_law_1262 : decode cL_law 1262 = .ok (.iadd, 1) := dk_96 (dk_at dksL_law_48 2 rfl rfl)
theorem dL_law_1263 : decode cL_law 1263 = .ok (.iaload, 1) := dk_46 (dk_at dksL_law_48 3 rfl rfl)
theorem dL_law_1264 : decode cL_law 1264 = .ok (.invokevirtual 134, 3) := dk_182 0 134 (dk_at dksL_law_48 4 rfl rfl)
theorem dL_law_1267 : decode cL_law 1267 = .ok (.aload_n 2, 1) := dk_44 (dk_at dksL_law_48 7 rfl rfl)
theorem dL_law_1268 : decode cL_law 1268 = .ok (.aload_n 0, 1) := dk_42 (dk_at dksL_law_48 8 rfl rfl)
theorem dL_law_1269 : decode cL_law 1269 = .ok (.iload_n 3, 1) := dk_29 (dk_at dksL_law_48 9 rfl rfl)
theorem dL_law_1270 : decode cL_law 1270 = .ok (.iconst 1, 1) := dk_4 (dk_at dksL_law_48 10 rfl rfl)
theorem dL_law_1271 : decode cL_law 1271 = .ok (.iadd, 1) := dk_96 (dk_at dksL_law_48 11 rfl rfl)
theorem dL_law_1272 : decode cL_law 1272 = .ok (.iaload, 1) := dk_46 (dk_at dksL_law_48 12 rfl rfl)
theorem dL_law_1273 : decode cL_law 1273 = .ok (.invokevirtual 137, 3) := dk_182 0 137 (dk_at dksL_law_48 13 rfl rfl)
theorem dL_law_1276 : decode cL_law 1276 = .ok (.if_icmp .eq 169, 3) := dk_159 0 169 (dk_at dksL_law_48 16 rfl rfl)
theorem dL_law_1279 : decode cL_law 1279 = .ok (.iconst 0, 1) := dk_3 (dk_at dksL_law_48 19 rfl rfl)
theorem dL_law_1280 : decode cL_law 1280 = .ok (.ireturn, 1) := dk_172 (dk_at dksL_law_48 20 rfl rfl)
theorem dL_law_1281 : decode cL_law 1281 = .ok (.aload_n 1, 1) := dk_43 (dk_at dksL_law_48 21 rfl rfl)
theorem dL_law_1282 : decode cL_law 1282 = .ok (.aload_n 0, 1) := dk_42 (dk_at dksL_law_48 22 rfl rfl)
theorem dL_law_1283 : decode cL_law 1283 = .ok (.iload_n 3, 1) := dk_29 (dk_at dksL_law_48 23 rfl rfl)
theorem dL_law_1284 : decode cL_law 1284 = .ok (.iconst 1, 1) := dk_4 (dk_at dksL_law_49 0 rfl rfl)
theorem dL_law_1285 : decode cL_law 1285 = .ok (.iadd, 1) := dk_96 (dk_at dksL_law_49 1 rfl rfl)
theorem dL_law_1286 : decode cL_law 1286 = .ok (.iaload, 1) := dk_46 (dk_at dksL_law_49 2 rfl rfl)
theorem dL_law_1287 : decode cL_law 1287 = .ok (.aload_n 0, 1) := dk_42 (dk_at dksL_law_49 3 rfl rfl)
theorem dL_law_1288 : decode cL_law 1288 = .ok (.iload_n 3, 1) := dk_29 (dk_at dksL_law_49 4 rfl rfl)
theorem dL_law_1289 : decode cL_law 1289 = .ok (.iconst 2, 1) := dk_5 (dk_at dksL_law_49 5 rfl rfl)
theorem dL_law_1290 : decode cL_law 1290 = .ok (.iadd, 1) := dk_96 (dk_at dksL_law_49 6 rfl rfl)
theorem dL_law_1291 : decode cL_law 1291 = .ok (.iaload, 1) := dk_46 (dk_at dksL_law_49 7 rfl rfl)
theorem dL_law_1292 : decode cL_law 1292 = .ok (.aload_n 0, 1) := dk_42 (dk_at dksL_law_49 8 rfl rfl)
theorem dL_law_1293 : decode cL_law 1293 = .ok (.iload_n 3, 1) := dk_29 (dk_at dksL_law_49 9 rfl rfl)
theorem dL_law_1294 : decode cL_law 1294 = .ok (.iconst 3, 1) := dk_6 (dk_at dksL_law_49 10 rfl rfl)
theorem dL_law_1295 : decode cL_law 1295 = .ok (.iadd, 1) := dk_96 (dk_at dksL_law_49 11 rfl rfl)
theorem dL_law_1296 : decode cL_law 1296 = .ok (.iaload, 1) := dk_46 (dk_at dksL_law_49 12 rfl rfl)
theorem dL_law_1297 : decode cL_law 1297 = .ok (.aload_n 0, 1) := dk_42 (dk_at dksL_law_49 13 rfl rfl)
theorem dL_law_1298 : decode cL_law 1298 = .ok (.iload_n 3, 1) := dk_29 (dk_at dksL_law_49 14 rfl rfl)
theorem dL_law_1299 : decode cL_law 1299 = .ok (.iconst 4, 1) := dk_7 (dk_at dksL_law_49 15 rfl rfl)
theorem dL_law_1300 : decode cL_law 1300 = .ok (.iadd, 1) := dk_96 (dk_at dksL_law_49 16 rfl rfl)
theorem dL_law_1301 : decode cL_law 1301 = .ok (.iaload, 1) := dk_46 (dk_at dksL_law_49 17 rfl rfl)
theorem dL_law_1302 : decode cL_law 1302 = .ok (.aload_n 0, 1) := dk_42 (dk_at dksL_law_49 18 rfl rfl)
theorem dL_law_1303 : decode cL_law 1303 = .ok (.iload_n 3, 1) := dk_29 (dk_at dksL_law_49 19 rfl rfl)
theorem dL_law_1304 : decode cL_law 1304 = .ok (.iconst 5, 1) := dk_8 (dk_at dksL_law_49 20 rfl rfl)
theorem dL_law_1305 : decode cL_law 1305 = .ok (.iadd, 1) := dk_96 (dk_at dksL_law_49 21 rfl rfl)
theorem dL_law_1306 : decode cL_law 1306 = .ok (.iaload, 1) := dk_46 (dk_at dksL_law_49 22 rfl rfl)
theorem dL_law_1307 : decode cL_law 1307 = .ok (.invokevirtual 138, 3) := dk_182 0 138 (dk_at dksL_law_50 0 rfl rfl)
theorem dL_law_1310 : decode cL_law 1310 = .ok (.aload_n 2, 1) := dk_44 (dk_at dksL_law_50 3 rfl rfl)
theorem dL_law_1311 : decode cL_law 1311 = .ok (.aload_n 0, 1) := dk_42 (dk_at dksL_law_50 4 rfl rfl)
theorem dL_law_1312 : decode cL_law 1312 = .ok (.iload_n 3, 1) := dk_29 (dk_at dksL_law_50 5 rfl rfl)
theorem dL_law_1313 : decode cL_law 1313 = .ok (.iconst 1, 1) := dk_4 (dk_at dksL_law_50 6 rfl rfl)
theorem dL_law_1314 : decode cL_law 1314 = .ok (.iadd, 1) := dk_96 (dk_at dksL_law_50 7 rfl rfl)
theorem dL_law_1315 : decode cL_law 1315 = .ok (.iaload, 1) := dk_46 (dk_at dksL_law_50 8 rfl rfl)
theorem dL_law_1316 : decode cL_law 1316 = .ok (.aload_n 0, 1) := dk_42 (dk_at dksL_law_50 9 rfl rfl)
theorem dL_law_1317 : decode cL_law 1317 = .ok (.iload_n 3, 1) := dk_29 (dk_at dksL_law_50 10 rfl rfl)
theorem dL_law_1318 : decode cL_law 1318 = .ok (.iconst 2, 1) := dk_5 (dk_at dksL_law_50 11 rfl rfl)
theorem dL_law_1319 : decode cL_law 1319 = .ok (.iadd, 1) := dk_96 (dk_at dksL_law_50 12 rfl rfl)
theorem dL_law_1320 : decode cL_law 1320 = .ok (.iaload, 1) := dk_46 (dk_at dksL_law_50 13 rfl rfl)
theorem dL_law_1321 : decode cL_law 1321 = .ok (.aload_n 0, 1) := dk_42 (dk_at dksL_law_50 14 rfl rfl)
theorem dL_law_1322 : decode cL_law 1322 = .ok (.iload_n 3, 1) := dk_29 (dk_at dksL_law_50 15 rfl rfl)
theorem dL_law_1323 : decode cL_law 1323 = .ok (.iconst 3, 1) := dk_6 (dk_at dksL_law_50 16 rfl rfl)
theorem dL_law_1324 : decode cL_law 1324 = .ok (.iadd, 1) := dk_96 (dk_at dksL_law_50 17 rfl rfl)
theorem dL_law_1325 : decode cL_law 1325 = .ok (.iaload, 1) := dk_46 (dk_at dksL_law_50 18 rfl rfl)
theorem dL_law_1326 : decode cL_law 1326 = .ok (.aload_n 0, 1) := dk_42 (dk_at dksL_law_50 19 rfl rfl)
theorem dL_law_1327 : decode cL_law 1327 = .ok (.iload_n 3, 1) := dk_29 (dk_at dksL_law_50 20 rfl rfl)
theorem dL_law_1328 : decode cL_law 1328 = .ok (.iconst 4, 1) := dk_7 (dk_at dksL_law_50 21 rfl rfl)
theorem dL_law_1329 : decode cL_law 1329 = .ok (.iadd, 1) := dk_96 (dk_at dksL_law_50 22 rfl rfl)
theorem dL_law_1330 : decode cL_law 1330 = .ok (.iaload, 1) := dk_46 (dk_at dksL_law_50 23 rfl rfl)
theorem dL_law_1331 : decode cL_law 1331 = .ok (.aload_n 0, 1) := dk_42 (dk_at dksL_law_51 0 rfl rfl)
theorem dL_law_1332 : decode cL_law 1332 = .ok (.iload_n 3, 1) := dk_29 (dk_at dksL_law_51 1 rfl rfl)
theorem dL_law_1333 : decode cL_law 1333 = .ok (.iconst 5, 1) := dk_8 (dk_at dksL_law_51 2 rfl rfl)
theorem dL_law_1334 : decode cL_law 1334 = .ok (.iadd, 1) := dk_96 (dk_at dksL_law_51 3 rfl rfl)
theorem dL_law_1335 : decode cL_law 1335 = .ok (.iaload, 1) := dk_46 (dk_at dksL_law_51 4 rfl rfl)
theorem dL_law_1336 : decode cL_law 1336 = .ok (.invokevirtual 141, 3) := dk_182 0 141 (dk_at dksL_law_51 5 rfl rfl)
theorem dL_law_1339 : decode cL_law 1339 = .ok (.if_icmp .eq 106, 3) := dk_159 0 106 (dk_at dksL_law_51 8 rfl rfl)
theorem dL_law_1342 : decode cL_law 1342 = .ok (.iconst 0, 1) := dk_3 (dk_at dksL_law_51 11 rfl rfl)
theorem dL_law_1343 : decode cL_law 1343 = .ok (.ireturn, 1) := dk_172 (dk_at dksL_law_51 12 rfl rfl)
theorem dL_law_1344 : decode cL_law 1344 = .ok (.aload_n 1, 1) := dk_43 (dk_at dksL_law_51 13 rfl rfl)
theorem dL_law_1345 : decode cL_law 1345 = .ok (.invokevirtual 142, 3) := dk_182 0 142 (dk_at dksL_law_51 14 rfl rfl)
theorem dL_law_1348 : decode cL_law 1348 = .ok (.aload_n 2, 1) := dk_44 (dk_at dksL_law_51 17 rfl rfl)
theorem dL_law_1349 : decode cL_law 1349 = .ok (.invokevirtual 146, 3) := dk_182 0 146 (dk_at dksL_law_51 18 rfl rfl)
theorem dL_law_1352 : decode cL_law 1352 = .ok (.lcmp, 1) := dk_148 (dk_at dksL_law_51 21 rfl rfl)
theorem dL_law_1353 : decode cL_law 1353 = .ok (.ifCond .eq 92, 3) := dk_153 0 92 (dk_at dksL_law_52 0 rfl rfl)
theorem dL_law_1356 : decode cL_law 1356 = .ok (.iconst 0, 1) := dk_3 (dk_at dksL_law_52 3 rfl rfl)
theorem dL_law_1357 : decode cL_law 1357 = .ok (.ireturn, 1) := dk_172 (dk_at dksL_law_52 4 rfl rfl)
theorem dL_law_1358 : decode cL_law 1358 = .ok (.aload_n 1, 1) := dk_43 (dk_at dksL_law_52 5 rfl rfl)
theorem dL_law_1359 : decode cL_law 1359 = .ok (.invokevirtual 147, 3) := dk_182 0 147 (dk_at dksL_law_52 6 rfl rfl)
theorem dL_law_1362 : decode cL_law 1362 = .ok (.aload_n 2, 1) := dk_44 (dk_at dksL_law_52 9 rfl rfl)
theorem dL_law_1363 : decode cL_law 1363 = .ok (.invokevirtual 150, 3) := dk_182 0 150 (dk_at dksL_law_52 10 rfl rfl)
theorem dL_law_1366 : decode cL_law 1366 = .ok (.lcmp, 1) := dk_148 (dk_at dksL_law_52 13 rfl rfl)
theorem dL_law_1367 : decode cL_law 1367 = .ok (.ifCond .eq 78, 3) := dk_153 0 78 (dk_at dksL_law_52 14 rfl rfl)
theorem dL_law_1370 : decode cL_law 1370 = .ok (.iconst 0, 1) := dk_3 (dk_at dksL_law_52 17 rfl rfl)
theorem dL_law_1371 : decode cL_law 1371 = .ok (.ireturn, 1) := dk_172 (dk_at dksL_law_52 18 rfl rfl)
theorem dL_law_1372 : decode cL_law 1372 = .ok (.aload_n 1, 1) := dk_43 (dk_at dksL_law_52 19 rfl rfl)
theorem dL_law_1373 : decode cL_law 1373 = .ok (.aload_n 0, 1) := dk_42 (dk_at dksL_law_52 20 rfl rfl)
theorem dL_law_1374 : decode cL_law 1374 = .ok (.iload_n 3, 1) := dk_29 (dk_at dksL_law_52 21 rfl rfl)
theorem dL_law_1375 : decode cL_law 1375 = .ok (.iconst 1, 1) := dk_4 (dk_at dksL_law_52 22 rfl rfl)
theorem dL_law_1376 : decode cL_law 1376 = .ok (.iadd, 1) := dk_96 (dk_at dksL_law_52 23 rfl rfl)
theorem dL_law_1377 : decode cL_law 1377 = .ok (.iaload, 1) := dk_46 (dk_at dksL_law_53 0 rfl rfl)
theorem dL_law_1378 : decode cL_law 1378 = .ok (.invokevirtual 151, 3) := dk_182 0 151 (dk_at dksL_law_53 1 rfl rfl)
theorem dL_law_1381 : decode cL_law 1381 = .ok (.aload_n 2, 1) := dk_44 (dk_at dksL_law_53 4 rfl rfl)
theorem dL_law_1382 : decode cL_law 1382 = .ok (.aload_n 0, 1) := dk_42 (dk_at dksL_law_53 5 rfl rfl)
theorem dL_law_1383 : decode cL_law 1383 = .ok (.iload_n 3, 1) := dk_29 (dk_at dksL_law_53 6 rfl rfl)
theorem dL_law_1384 : decode cL_law 1384 = .ok (.iconst 1, 1) := dk_4 (dk_at dksL_law_53 7 rfl rfl)
theorem dL_law_1385 : decode cL_law 1385 = .ok (.iadd, 1) := dk_96 (dk_at dksL_law_53 8 rfl rfl)
theorem dL_law_1386 : decode cL_law 1386 = .ok (.iaload, 1) := dk_46 (dk_at dksL_law_53 9 rfl rfl)
theorem dL_law_1387 : decode cL_law 1387 = .ok (.invokevirtual 154, 3) := dk_182 0 154 (dk_at dksL_law_53 10 rfl rfl)
theorem dL_law_1390 : decode cL_law 1390 = .ok (.if_icmp .eq 55, 3) := dk_159 0 55 (dk_at dksL_law_53 13 rfl rfl)
theorem dL_law_1393 : decode cL_law 1393 = .ok (.iconst 0, 1) := dk_3 (dk_at dksL_law_53 16 rfl rfl)
theorem dL_law_1394 : decode cL_law 1394 = .ok (.ireturn, 1) := dk_172 (dk_at dksL_law_53 17 rfl rfl)
theorem dL_law_1395 : decode cL_law 1395 = .ok (.aload_n 1, 1) := dk_43 (dk_at dksL_law_53 18 rfl rfl)
theorem dL_law_1396 : decode cL_law 1396 = .ok (.invokevirtual 155, 3) := dk_182 0 155 (dk_at dksL_law_53 19 rfl rfl)
theorem dL_law_1399 : decode cL_law 1399 = .ok (.aload_n 2, 1) := dk_44 (dk_at dksL_law_53 22 rfl rfl)
theorem dL_law_1400 : decode cL_law 1400 = .ok (.invokevirtual 158, 3) := dk_182 0 158 (dk_at dksL_law_54 0 rfl rfl)
theorem dL_law_1403 : decode cL_law 1403 = .ok (.if_icmp .eq 42, 3) := dk_159 0 42 (dk_at dksL_law_54 3 rfl rfl)
theorem dL_law_1406 : decode cL_law 1406 = .ok (.iconst 0, 1) := dk_3 (dk_at dksL_law_54 6 rfl rfl)
theorem dL_law_1407 : decode cL_law 1407 = .ok (.ireturn, 1) := dk_172 (dk_at dksL_law_54 7 rfl rfl)
theorem dL_law_1408 : decode cL_law 1408 = .ok (.aload_n 1, 1) := dk_43 (dk_at dksL_law_54 8 rfl rfl)
theorem dL_law_1409 : decode cL_law 1409 = .ok (.aload_n 0, 1) := dk_42 (dk_at dksL_law_54 9 rfl rfl)
theorem dL_law_1410 : decode cL_law 1410 = .ok (.iload_n 3, 1) := dk_29 (dk_at dksL_law_54 10 rfl rfl)
theorem dL_law_1411 : decode cL_law 1411 = .ok (.iconst 1, 1) := dk_4 (dk_at dksL_law_54 11 rfl rfl)
theorem dL_law_1412 : decode cL_law 1412 = .ok (.iadd, 1) := dk_96 (dk_at dksL_law_54 12 rfl rfl)
theorem dL_law_1413 : decode cL_law 1413 = .ok (.iaload, 1) := dk_46 (dk_at dksL_law_54 13 rfl rfl)
theorem dL_law_1414 : decode cL_law 1414 = .ok (.invokevirtual 159, 3) := dk_182 0 159 (dk_at dksL_law_54 14 rfl rfl)
theorem dL_law_1417 : decode cL_law 1417 = .ok (.aload_n 2, 1) := dk_44 (dk_at dksL_law_54 17 rfl rfl)
theorem dL_law_1418 : decode cL_law 1418 = .ok (.aload_n 0, 1) := dk_42 (dk_at dksL_law_54 18 rfl rfl)
theorem dL_law_1419 : decode cL_law 1419 = .ok (.iload_n 3, 1) := dk_29 (dk_at dksL_law_54 19 rfl rfl)
theorem dL_law_1420 : decode cL_law 1420 = .ok (.iconst 1, 1) := dk_4 (dk_at dksL_law_54 20 rfl rfl)
theorem dL_law_1421 : decode cL_law 1421 = .ok (.iadd, 1) := dk_96 (dk_at dksL_law_54 21 rfl rfl)
theorem dL_law_1422 : decode cL_law 1422 = .ok (.iaload, 1) := dk_46 (dk_at dksL_law_54 22 rfl rfl)
theorem dL_law_1423 : decode cL_law 1423 = .ok (.invokevirtual 162, 3) := dk_182 0 162 (dk_at dksL_law_55 0 rfl rfl)
theorem dL_law_1426 : decode cL_law 1426 = .ok (.if_icmp .eq 19, 3) := dk_159 0 19 (dk_at dksL_law_55 3 rfl rfl)
theorem dL_law_1429 : decode cL_law 1429 = .ok (.iconst 0, 1) := dk_3 (dk_at dksL_law_55 6 rfl rfl)
theorem dL_law_1430 : decode cL_law 1430 = .ok (.ireturn, 1) := dk_172 (dk_at dksL_law_55 7 rfl rfl)
theorem dL_law_1431 : decode cL_law 1431 = .ok (.aload_n 1, 1) := dk_43 (dk_at dksL_law_55 8 rfl rfl)
theorem dL_law_1432 : decode cL_law 1432 = .ok (.invokevirtual 163, 3) := dk_182 0 163 (dk_at dksL_law_55 9 rfl rfl)
theorem dL_law_1435 : decode cL_law 1435 = .ok (.aload_n 2, 1) := dk_44 (dk_at dksL_law_55 12 rfl rfl)
theorem dL_law_1436 : decode cL_law 1436 = .ok (.invokevirtual 166, 3) := dk_182 0 166 (dk_at dksL_law_55 13 rfl rfl)
theorem dL_law_1439 : decode cL_law 1439 = .ok (.lcmp, 1) := dk_148 (dk_at dksL_law_55 16 rfl rfl)
theorem dL_law_1440 : decode cL_law 1440 = .ok (.ifCond .eq 5, 3) := dk_153 0 5 (dk_at dksL_law_55 17 rfl rfl)
theorem dL_law_1443 : decode cL_law 1443 = .ok (.iconst 0, 1) := dk_3 (dk_at dksL_law_55 20 rfl rfl)
theorem dL_law_1444 : decode cL_law 1444 = .ok (.ireturn, 1) := dk_172 (dk_at dksL_law_55 21 rfl rfl)
theorem dL_law_1445 : decode cL_law 1445 = .ok (.iinc 3 7, 3) := dk_132 3 7 (dk_at dksL_law_56 0 rfl rfl)
theorem dL_law_1448 : decode cL_law 1448 = .ok (.goto (-1430), 3) := dk_167 250 106 (dk_at dksL_law_56 3 rfl rfl)
theorem dL_law_1451 : decode cL_law 1451 = .ok (.iconst 1, 1) := dk_4 (dk_at dksL_law_56 6 rfl rfl)
theorem dL_law_1452 : decode cL_law 1452 = .ok (.ireturn, 1) := dk_172 (dk_at dksL_law_56 7 rfl rfl)
end
