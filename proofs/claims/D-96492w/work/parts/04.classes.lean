/-! InASackToTheRope$Trace -/
set_option maxRecDepth 100000
def RX1 : String := "InASackToTheRope$Trace"
def TX1 : u_T := fun k => match k with
  | 0 => ("InASackToTheRope$Trace", "bodies", "[I", true)
  | _ => ("InASackToTheRope$Trace", "many", "I", false)
def tyX1 : Nat → FieldType := fun k => match k with
  | 0 => .array .int
  | _ => .int
abbrev wsX10 : List Cond := u_ws RX1 TX1 2
theorem nmX1 : ∀ a, a < 2 → ∀ b, b < 2 → a ≠ b → (TX1 a).2.1 ≠ (TX1 b).2.1 := by decide +kernel
theorem tyX1_ok : ∀ k, k < 2 → parseFieldDescriptor (TX1 k).2.2.1 = some (tyX1 k) := by decide +kernel
abbrev cX1_init : ByteArray := prog_21_method_1_code
def yX1_init : MethodName := ⟨RX1, "<init>", "()V"⟩
def dkwX1_init_0 : List UInt8 := [42, 183, 0, 3, 42, 16, 20, 188, 10, 181, 0, 9, 177]
abbrev dktX1_init_0 : List UInt8 := dkwX1_init_0 ++ []
theorem dksX1_init_0 : cX1_init.data.toList.drop 0 = dktX1_init_0 := by decide +kernel
theorem dX1_init_0 : decode cX1_init 0 = .ok (.aload_n 0, 1) := dk_42 (dk_at dksX1_init_0 0 rfl rfl)
theorem dX1_init_1 : decode cX1_init 1 = .ok (.invokespecial 3, 3) := dk_183 0 3 (dk_at dksX1_init_0 1 rfl rfl)
theorem dX1_init_4 : decode cX1_init 4 = .ok (.aload_n 0, 1) := dk_42 (dk_at dksX1_init_0 4 rfl rfl)
theorem dX1_init_5 : decode cX1_init 5 = .ok (.bipush 20, 2) := dk_16 20 (dk_at dksX1_init_0 5 rfl rfl)
theorem dX1_init_7 : decode cX1_init 7 = .ok (.newarray .int, 2) := dk_188_10 (dk_at dksX1_init_0 7 rfl rfl)
theorem dX1_init_9 : decode cX1_init 9 = .ok (.putfield 9, 3) := dk_181 0 9 (dk_at dksX1_init_0 9 rfl rfl)
theorem dX1_init_12 : decode cX1_init 12 = .ok (.return_, 1) := dk_177 (dk_at dksX1_init_0 12 rfl rfl)
abbrev cX1_runs : ByteArray := prog_21_method_2_code
def yX1_runs : MethodName := ⟨RX1, "runs", "(I)V"⟩
def dkwX1_runs_1 : List UInt8 := [4, 96, 181, 0, 15, 177]
abbrev dktX1_runs_1 : List UInt8 := dkwX1_runs_1 ++ []
def dkwX1_runs_0 : List UInt8 := [42, 180, 0, 15, 16, 20, 162, 0, 13, 42, 180, 0, 9, 42, 180, 0, 15, 27, 79, 42, 89, 180, 0, 15]
abbrev dktX1_runs_0 : List UInt8 := dkwX1_runs_0 ++ dktX1_runs_1
theorem dksX1_runs_0 : cX1_runs.data.toList.drop 0 = dktX1_runs_0 := by decide +kernel
theorem dksX1_runs_1 : cX1_runs.data.toList.drop 24 = dktX1_runs_1 := dk_seg dksX1_runs_0 24 rfl rfl
theorem dX1_runs_0 : decode cX1_runs 0 = .ok (.aload_n 0, 1) := dk_42 (dk_at dksX1_runs_0 0 rfl rfl)
theorem dX1_runs_1 : decode cX1_runs 1 = .ok (.getfield 15, 3) := dk_180 0 15 (dk_at dksX1_runs_0 1 rfl rfl)
theorem dX1_runs_4 : decode cX1_runs 4 = .ok (.bipush 20, 2) := dk_16 20 (dk_at dksX1_runs_0 4 rfl rfl)
theorem dX1_runs_6 : decode cX1_runs 6 = .ok (.if_icmp .ge 13, 3) := dk_162 0 13 (dk_at dksX1_runs_0 6 rfl rfl)
theorem dX1_runs_9 : decode cX1_runs 9 = .ok (.aload_n 0, 1) := dk_42 (dk_at dksX1_runs_0 9 rfl rfl)
theorem dX1_runs_10 : decode cX1_runs 10 = .ok (.getfield 9, 3) := dk_180 0 9 (dk_at dksX1_runs_0 10 rfl rfl)
theorem dX1_runs_13 : decode cX1_runs 13 = .ok (.aload_n 0, 1) := dk_42 (dk_at dksX1_runs_0 13 rfl rfl)
theorem dX1_runs_14 : decode cX1_runs 14 = .ok (.getfield 15, 3) := dk_180 0 15 (dk_at dksX1_runs_0 14 rfl rfl)
theorem dX1_runs_17 : decode cX1_runs 17 = .ok (.iload_n 1, 1) := dk_27 (dk_at dksX1_runs_0 17 rfl rfl)
theorem dX1_runs_18 : decode cX1_runs 18 = .ok (.iastore, 1) := dk_79 (dk_at dksX1_runs_0 18 rfl rfl)
theorem dX1_runs_19 : decode cX1_runs 19 = .ok (.aload_n 0, 1) := dk_42 (dk_at dksX1_runs_0 19 rfl rfl)
theorem dX1_runs_20 : decode cX1_runs 20 = .ok (.dup, 1) := dk_89 (dk_at dksX1_runs_0 20 rfl rfl)
theorem dX1_runs_21 : decode cX1_runs 21 = .ok (.getfield 15, 3) := dk_180 0 15 (dk_at dksX1_runs_0 21 rfl rfl)
theorem dX1_runs_24 : decode cX1_runs 24 = .ok (.iconst 1, 1) := dk_4 (dk_at dksX1_runs_1 0 rfl rfl)
theorem dX1_runs_25 : decode cX1_runs 25 = .ok (.iadd, 1) := dk_96 (dk_at dksX1_runs_1 1 rfl rfl)
theorem dX1_runs_26 : decode cX1_runs 26 = .ok (.putfield 15, 3) := dk_181 0 15 (dk_at dksX1_runs_1 2 rfl rfl)
theorem dX1_runs_29 : decode cX1_runs 29 = .ok (.return_, 1) := dk_177 (dk_at dksX1_runs_1 5 rfl rfl)
theorem q95 : (Jvm.Cond.initialized "InASackToTheRope$Trace") ∈ lw_all := lw_g (lw_at lw_m1 2 rfl) rfl
theorem q141 : (Jvm.Cond.instantiable "InASackToTheRope$Trace" (2 : Nat)) ∈ lw_all := lw_g (lw_at lw_m1 48 rfl) rfl
theorem q143 : (Jvm.Cond.instanceMethod ({ cls := "InASackToTheRope$Trace", name := "<init>", desc := "()V" } : Jvm.MethodName)) ∈ lw_all := lw_g (lw_at lw_m1 50 rfl) rfl
theorem q144 : (Jvm.Cond.code ({ cls := "InASackToTheRope$Trace", name := "<init>", desc := "()V" } : Jvm.MethodName) prog_21_method_1_code (1 : Nat) (Option.none : Option Jvm.ClassFile.FieldType)) ∈ lw_all := lw_g (lw_at lw_m1 51 rfl) rfl
theorem q145 : (Jvm.Cond.methodLink "InASackToTheRope$Trace" (3 : Nat) ({ cls := "java/lang/Object", name := "<init>", desc := "()V" } : Jvm.MethodName)) ∈ lw_all := lw_g (lw_at lw_m1 52 rfl) rfl
theorem q146 : (Jvm.Cond.fieldLink "InASackToTheRope$Trace" (9 : Nat) "InASackToTheRope$Trace" "bodies" "[I") ∈ lw_all := lw_g (lw_at lw_m1 53 rfl) rfl
theorem q148 : (Jvm.Cond.fieldLink "InASackToTheRope$Trace" (15 : Nat) "InASackToTheRope$Trace" "many" "I") ∈ lw_all := lw_g (lw_at lw_m1 55 rfl) rfl
theorem q150 : (Jvm.Cond.laysFinal "InASackToTheRope$Trace" "InASackToTheRope$Trace" "bodies" "[I") ∈ lw_all := lw_g (lw_at lw_m1 57 rfl) rfl
theorem q151 : (Jvm.Cond.soleField "InASackToTheRope$Trace" "bodies") ∈ lw_all := lw_g (lw_at lw_m1 58 rfl) rfl
theorem q152 : (Jvm.Cond.lays "InASackToTheRope$Trace" "InASackToTheRope$Trace" "many" "I") ∈ lw_all := lw_g (lw_at lw_m1 59 rfl) rfl
theorem q153 : (Jvm.Cond.soleField "InASackToTheRope$Trace" "many") ∈ lw_all := lw_g (lw_at lw_m1 60 rfl) rfl
theorem q154 : (Jvm.Cond.superclass "InASackToTheRope$Trace" "java/lang/Object") ∈ lw_all := lw_g (lw_at lw_m1 61 rfl) rfl
theorem q1382 : (Jvm.Cond.instanceMethod ({ cls := "InASackToTheRope$Trace", name := "runs", desc := "(I)V" } : Jvm.MethodName)) ∈ lw_all := lw_g (lw_at lw_m6 89 rfl) rfl
theorem q1383 : (Jvm.Cond.selects "InASackToTheRope$Trace" ({ cls := "InASackToTheRope$Trace", name := "runs", desc := "(I)V" } : Jvm.MethodName) ({ cls := "InASackToTheRope$Trace", name := "runs", desc := "(I)V" } : Jvm.MethodName)) ∈ lw_all := lw_g (lw_at lw_m6 90 rfl) rfl
theorem q1384 : (Jvm.Cond.code ({ cls := "InASackToTheRope$Trace", name := "runs", desc := "(I)V" } : Jvm.MethodName) prog_21_method_2_code (2 : Nat) (Option.none : Option Jvm.ClassFile.FieldType)) ∈ lw_all := lw_g (lw_at lw_m6 91 rfl) rfl
theorem in_X1 : ∀ w ∈ wsX10, w ∈ lw_all := lw_in wsX10 [150, 152] (by decide +kernel) (by decide +kernel)
/-! InASackToTheRope$Shorts -/
set_option maxRecDepth 100000
def RX10 : String := "InASackToTheRope$Shorts"
def TX10 : u_T := fun k => match k with
  | _ => ("InASackToTheRope$Shorts", "e", "[S", true)
def tyX10 : Nat → FieldType := fun k => match k with
  | _ => .array .short
abbrev wsX100 : List Cond := u_ws RX10 TX10 1
theorem nmX10 : ∀ a, a < 1 → ∀ b, b < 1 → a ≠ b → (TX10 a).2.1 ≠ (TX10 b).2.1 := by decide +kernel
theorem tyX10_ok : ∀ k, k < 1 → parseFieldDescriptor (TX10 k).2.2.1 = some (tyX10 k) := by decide +kernel
abbrev cX10_init : ByteArray := prog_19_method_1_code
def yX10_init : MethodName := ⟨RX10, "<init>", "(I)V"⟩
def dkwX10_init_0 : List UInt8 := [42, 183, 0, 1, 42, 27, 188, 9, 181, 0, 7, 177]
abbrev dktX10_init_0 : List UInt8 := dkwX10_init_0 ++ []
theorem dksX10_init_0 : cX10_init.data.toList.drop 0 = dktX10_init_0 := by decide +kernel
theorem dX10_init_0 : decode cX10_init 0 = .ok (.aload_n 0, 1) := dk_42 (dk_at dksX10_init_0 0 rfl rfl)
theorem dX10_init_1 : decode cX10_init 1 = .ok (.invokespecial 1, 3) := dk_183 0 1 (dk_at dksX10_init_0 1 rfl rfl)
theorem dX10_init_4 : decode cX10_init 4 = .ok (.aload_n 0, 1) := dk_42 (dk_at dksX10_init_0 4 rfl rfl)
theorem dX10_init_5 : decode cX10_init 5 = .ok (.iload_n 1, 1) := dk_27 (dk_at dksX10_init_0 5 rfl rfl)
theorem dX10_init_6 : decode cX10_init 6 = .ok (.newarray .short, 2) := dk_188_9 (dk_at dksX10_init_0 6 rfl rfl)
theorem dX10_init_8 : decode cX10_init 8 = .ok (.putfield 7, 3) := dk_181 0 7 (dk_at dksX10_init_0 8 rfl rfl)
theorem dX10_init_11 : decode cX10_init 11 = .ok (.return_, 1) := dk_177 (dk_at dksX10_init_0 11 rfl rfl)
abbrev cX10_put : ByteArray := prog_19_method_4_code
def yX10_put : MethodName := ⟨RX10, "put", "(IJ)V"⟩
def dkwX10_put_0 : List UInt8 := [42, 180, 0, 7, 27, 32, 136, 147, 86, 177]
abbrev dktX10_put_0 : List UInt8 := dkwX10_put_0 ++ []
theorem dksX10_put_0 : cX10_put.data.toList.drop 0 = dktX10_put_0 := by decide +kernel
theorem dX10_put_0 : decode cX10_put 0 = .ok (.aload_n 0, 1) := dk_42 (dk_at dksX10_put_0 0 rfl rfl)
theorem dX10_put_1 : decode cX10_put 1 = .ok (.getfield 7, 3) := dk_180 0 7 (dk_at dksX10_put_0 1 rfl rfl)
theorem dX10_put_4 : decode cX10_put 4 = .ok (.iload_n 1, 1) := dk_27 (dk_at dksX10_put_0 4 rfl rfl)
theorem dX10_put_5 : decode cX10_put 5 = .ok (.lload_n 2, 1) := dk_32 (dk_at dksX10_put_0 5 rfl rfl)
theorem dX10_put_6 : decode cX10_put 6 = .ok (.l2i, 1) := dk_136 (dk_at dksX10_put_0 6 rfl rfl)
theorem dX10_put_7 : decode cX10_put 7 = .ok (.i2s, 1) := dk_147 (dk_at dksX10_put_0 7 rfl rfl)
theorem dX10_put_8 : decode cX10_put 8 = .ok (.sastore, 1) := dk_86 (dk_at dksX10_put_0 8 rfl rfl)
theorem dX10_put_9 : decode cX10_put 9 = .ok (.return_, 1) := dk_177 (dk_at dksX10_put_0 9 rfl rfl)
abbrev cX10_sort : ByteArray := prog_19_method_2_code
def yX10_sort : MethodName := ⟨RX10, "sort", "()I"⟩
theorem dX10_sort_0 : decode cX10_sort 0 = .ok (.iconst 1, 1) := by decide +kernel
theorem dX10_sort_1 : decode cX10_sort 1 = .ok (.ireturn, 1) := by decide +kernel
abbrev cX10_held : ByteArray := prog_19_method_8_code
def yX10_held : MethodName := ⟨RX10, "held", "()Ljava/lang/Object;"⟩
theorem dX10_held_0 : decode cX10_held 0 = .ok (.aload_n 0, 1) := by decide +kernel
theorem dX10_held_1 : decode cX10_held 1 = .ok (.getfield 7, 3) := by decide +kernel
theorem dX10_held_4 : decode cX10_held 4 = .ok (.areturn, 1) := by decide +kernel
abbrev cX10_get : ByteArray := prog_19_method_5_code
def yX10_get : MethodName := ⟨RX10, "get", "(I)J"⟩
def dkwX10_get_0 : List UInt8 := [42, 180, 0, 7, 27, 53, 133, 173]
abbrev dktX10_get_0 : List UInt8 := dkwX10_get_0 ++ []
theorem dksX10_get_0 : cX10_get.data.toList.drop 0 = dktX10_get_0 := by decide +kernel
theorem dX10_get_0 : decode cX10_get 0 = .ok (.aload_n 0, 1) := dk_42 (dk_at dksX10_get_0 0 rfl rfl)
theorem dX10_get_1 : decode cX10_get 1 = .ok (.getfield 7, 3) := dk_180 0 7 (dk_at dksX10_get_0 1 rfl rfl)
theorem dX10_get_4 : decode cX10_get 4 = .ok (.iload_n 1, 1) := dk_27 (dk_at dksX10_get_0 4 rfl rfl)
theorem dX10_get_5 : decode cX10_get 5 = .ok (.saload, 1) := dk_53 (dk_at dksX10_get_0 5 rfl rfl)
theorem dX10_get_6 : decode cX10_get 6 = .ok (.i2l, 1) := dk_133 (dk_at dksX10_get_0 6 rfl rfl)
theorem dX10_get_7 : decode cX10_get 7 = .ok (.lreturn, 1) := dk_173 (dk_at dksX10_get_0 7 rfl rfl)
abbrev cX10_length : ByteArray := prog_19_method_3_code
def yX10_length : MethodName := ⟨RX10, "length", "()I"⟩
def dkwX10_length_0 : List UInt8 := [42, 180, 0, 7, 190, 172]
abbrev dktX10_length_0 : List UInt8 := dkwX10_length_0 ++ []
theorem dksX10_length_0 : cX10_length.data.toList.drop 0 = dktX10_length_0 := by decide +kernel
theorem dX10_length_0 : decode cX10_length 0 = .ok (.aload_n 0, 1) := dk_42 (dk_at dksX10_length_0 0 rfl rfl)
theorem dX10_length_1 : decode cX10_length 1 = .ok (.getfield 7, 3) := dk_180 0 7 (dk_at dksX10_length_0 1 rfl rfl)
theorem dX10_length_4 : decode cX10_length 4 = .ok (.arraylength, 1) := dk_190 (dk_at dksX10_length_0 4 rfl rfl)
theorem dX10_length_5 : decode cX10_length 5 = .ok (.ireturn, 1) := dk_172 (dk_at dksX10_length_0 5 rfl rfl)
theorem q111 : (Jvm.Cond.initialized "InASackToTheRope$Shorts") ∈ lw_all := lw_g (lw_at lw_m1 18 rfl) rfl
theorem q507 : (Jvm.Cond.instantiable "InASackToTheRope$Shorts" (1 : Nat)) ∈ lw_all := lw_g (lw_at lw_m2 174 rfl) rfl
theorem q509 : (Jvm.Cond.instanceMethod ({ cls := "InASackToTheRope$Shorts", name := "<init>", desc := "(I)V" } : Jvm.MethodName)) ∈ lw_all := lw_g (lw_at lw_m2 176 rfl) rfl
theorem q510 : (Jvm.Cond.code ({ cls := "InASackToTheRope$Shorts", name := "<init>", desc := "(I)V" } : Jvm.MethodName) prog_19_method_1_code (2 : Nat) (Option.none : Option Jvm.ClassFile.FieldType)) ∈ lw_all := lw_g (lw_at lw_m2 177 rfl) rfl
theorem q511 : (Jvm.Cond.methodLink "InASackToTheRope$Shorts" (1 : Nat) ({ cls := "InASackToTheRope$Row", name := "<init>", desc := "()V" } : Jvm.MethodName)) ∈ lw_all := lw_g (lw_at lw_m2 178 rfl) rfl
theorem q512 : (Jvm.Cond.fieldLink "InASackToTheRope$Shorts" (7 : Nat) "InASackToTheRope$Shorts" "e" "[S") ∈ lw_all := lw_g (lw_at lw_m2 179 rfl) rfl
theorem q513 : (Jvm.Cond.laysFinal "InASackToTheRope$Shorts" "InASackToTheRope$Shorts" "e" "[S") ∈ lw_all := lw_g (lw_at lw_m2 180 rfl) rfl
theorem q514 : (Jvm.Cond.soleField "InASackToTheRope$Shorts" "e") ∈ lw_all := lw_g (lw_at lw_m2 181 rfl) rfl
theorem q515 : (Jvm.Cond.superclass "InASackToTheRope$Shorts" "InASackToTheRope$Row") ∈ lw_all := lw_g (lw_at lw_m2 182 rfl) rfl
theorem q580 : (Jvm.Cond.selects "InASackToTheRope$Shorts" ({ cls := "InASackToTheRope$Row", name := "put", desc := "(IJ)V" } : Jvm.MethodName) ({ cls := "InASackToTheRope$Shorts", name := "put", desc := "(IJ)V" } : Jvm.MethodName)) ∈ lw_all := lw_g (lw_at lw_m3 7 rfl) rfl
theorem q581 : (Jvm.Cond.instanceMethod ({ cls := "InASackToTheRope$Shorts", name := "put", desc := "(IJ)V" } : Jvm.MethodName)) ∈ lw_all := lw_g (lw_at lw_m3 8 rfl) rfl
theorem q582 : (Jvm.Cond.code ({ cls := "InASackToTheRope$Shorts", name := "put", desc := "(IJ)V" } : Jvm.MethodName) prog_19_method_4_code (4 : Nat) (Option.none : Option Jvm.ClassFile.FieldType)) ∈ lw_all := lw_g (lw_at lw_m3 9 rfl) rfl
theorem q605 : (Jvm.Cond.selects "InASackToTheRope$Shorts" ({ cls := "InASackToTheRope$Row", name := "sort", desc := "()I" } : Jvm.MethodName) ({ cls := "InASackToTheRope$Shorts", name := "sort", desc := "()I" } : Jvm.MethodName)) ∈ lw_all := lw_g (lw_at lw_m3 32 rfl) rfl
theorem q606 : (Jvm.Cond.instanceMethod ({ cls := "InASackToTheRope$Shorts", name := "sort", desc := "()I" } : Jvm.MethodName)) ∈ lw_all := lw_g (lw_at lw_m3 33 rfl) rfl
theorem q607 : (Jvm.Cond.code ({ cls := "InASackToTheRope$Shorts", name := "sort", desc := "()I" } : Jvm.MethodName) prog_19_method_2_code (1 : Nat) (Option.some Jvm.ClassFile.FieldType.int)) ∈ lw_all := lw_g (lw_at lw_m3 34 rfl) rfl
theorem q620 : (Jvm.Cond.selects "InASackToTheRope$Shorts" ({ cls := "InASackToTheRope$Row", name := "held", desc := "()Ljava/lang/Object;" } : Jvm.MethodName) ({ cls := "InASackToTheRope$Shorts", name := "held", desc := "()Ljava/lang/Object;" } : Jvm.MethodName)) ∈ lw_all := lw_g (lw_at lw_m3 47 rfl) rfl
theorem q621 : (Jvm.Cond.instanceMethod ({ cls := "InASackToTheRope$Shorts", name := "held", desc := "()Ljava/lang/Object;" } : Jvm.MethodName)) ∈ lw_all := lw_g (lw_at lw_m3 48 rfl) rfl
theorem q622 : (Jvm.Cond.code ({ cls := "InASackToTheRope$Shorts", name := "held", desc := "()Ljava/lang/Object;" } : Jvm.MethodName) prog_19_method_8_code (1 : Nat) (Option.some (Jvm.ClassFile.FieldType.object "java/lang/Object"))) ∈ lw_all := lw_g (lw_at lw_m3 49 rfl) rfl
theorem q642 : (Jvm.Cond.selects "InASackToTheRope$Shorts" ({ cls := "InASackToTheRope$Row", name := "get", desc := "(I)J" } : Jvm.MethodName) ({ cls := "InASackToTheRope$Shorts", name := "get", desc := "(I)J" } : Jvm.MethodName)) ∈ lw_all := lw_g (lw_at lw_m3 69 rfl) rfl
theorem q643 : (Jvm.Cond.instanceMethod ({ cls := "InASackToTheRope$Shorts", name := "get", desc := "(I)J" } : Jvm.MethodName)) ∈ lw_all := lw_g (lw_at lw_m3 70 rfl) rfl
theorem q644 : (Jvm.Cond.code ({ cls := "InASackToTheRope$Shorts", name := "get", desc := "(I)J" } : Jvm.MethodName) prog_19_method_5_code (2 : Nat) (Option.some Jvm.ClassFile.FieldType.long)) ∈ lw_all := lw_g (lw_at lw_m3 71 rfl) rfl
theorem q1001 : (Jvm.Cond.selects "InASackToTheRope$Shorts" ({ cls := "InASackToTheRope$Row", name := "length", desc := "()I" } : Jvm.MethodName) ({ cls := "InASackToTheRope$Shorts", name := "length", desc := "()I" } : Jvm.MethodName)) ∈ lw_all := lw_g (lw_at lw_m4 188 rfl) rfl
theorem q1002 : (Jvm.Cond.instanceMethod ({ cls := "InASackToTheRope$Shorts", name := "length", desc := "()I" } : Jvm.MethodName)) ∈ lw_all := lw_g (lw_at lw_m4 189 rfl) rfl
theorem q1003 : (Jvm.Cond.code ({ cls := "InASackToTheRope$Shorts", name := "length", desc := "()I" } : Jvm.MethodName) prog_19_method_3_code (1 : Nat) (Option.some Jvm.ClassFile.FieldType.int)) ∈ lw_all := lw_g (lw_at lw_m4 190 rfl) rfl
theorem q1010 : (Jvm.Cond.selects "InASackToTheRope$Shorts" ({ cls := "InASackToTheRope$Row", name := "asInt", desc := "(I)I" } : Jvm.MethodName) ({ cls := "InASackToTheRope$Row", name := "asInt", desc := "(I)I" } : Jvm.MethodName)) ∈ lw_all := lw_g (lw_at lw_m4 197 rfl) rfl
theorem q2049 : (Jvm.Cond.castable "InASackToTheRope$Shorts" "InASackToTheRope$Row") ∈ lw_tbl := lw_at lw_m9 36 rfl
theorem in_X10 : ∀ w ∈ wsX100, w ∈ lw_all := lw_in wsX100 [513] (by decide +kernel) (by decide +kernel)
/-! InASackToTheRope$Ints -/
set_option maxRecDepth 100000
def RX11 : String := "InASackToTheRope$Ints"
def TX11 : u_T := fun k => match k with
  | _ => ("InASackToTheRope$Ints", "e", "[I", true)
def tyX11 : Nat → FieldType := fun k => match k with
  | _ => .array .int
abbrev wsX110 : List Cond := u_ws RX11 TX11 1
theorem nmX11 : ∀ a, a < 1 → ∀ b, b < 1 → a ≠ b → (TX11 a).2.1 ≠ (TX11 b).2.1 := by decide +kernel
theorem tyX11_ok : ∀ k, k < 1 → parseFieldDescriptor (TX11 k).2.2.1 = some (tyX11 k) := by decide +kernel
abbrev cX11_init : ByteArray := prog_11_method_1_code
def yX11_init : MethodName := ⟨RX11, "<init>", "(I)V"⟩
def dkwX11_init_0 : List UInt8 := [42, 183, 0, 1, 42, 27, 188, 10, 181, 0, 7, 177]
abbrev dktX11_init_0 : List UInt8 := dkwX11_init_0 ++ []
theorem dksX11_init_0 : cX11_init.data.toList.drop 0 = dktX11_init_0 := by decide +kernel
theorem dX11_init_0 : decode cX11_init 0 = .ok (.aload_n 0, 1) := dk_42 (dk_at dksX11_init_0 0 rfl rfl)
theorem dX11_init_1 : decode cX11_init 1 = .ok (.invokespecial 1, 3) := dk_183 0 1 (dk_at dksX11_init_0 1 rfl rfl)
theorem dX11_init_4 : decode cX11_init 4 = .ok (.aload_n 0, 1) := dk_42 (dk_at dksX11_init_0 4 rfl rfl)
theorem dX11_init_5 : decode cX11_init 5 = .ok (.iload_n 1, 1) := dk_27 (dk_at dksX11_init_0 5 rfl rfl)
theorem dX11_init_6 : decode cX11_init 6 = .ok (.newarray .int, 2) := dk_188_10 (dk_at dksX11_init_0 6 rfl rfl)
theorem dX11_init_8 : decode cX11_init 8 = .ok (.putfield 7, 3) := dk_181 0 7 (dk_at dksX11_init_0 8 rfl rfl)
theorem dX11_init_11 : decode cX11_init 11 = .ok (.return_, 1) := dk_177 (dk_at dksX11_init_0 11 rfl rfl)
abbrev cX11_put : ByteArray := prog_11_method_4_code
def yX11_put : MethodName := ⟨RX11, "put", "(IJ)V"⟩
def dkwX11_put_0 : List UInt8 := [42, 180, 0, 7, 27, 32, 136, 79, 177]
abbrev dktX11_put_0 : List UInt8 := dkwX11_put_0 ++ []
theorem dksX11_put_0 : cX11_put.data.toList.drop 0 = dktX11_put_0 := by decide +kernel
theorem dX11_put_0 : decode cX11_put 0 = .ok (.aload_n 0, 1) := dk_42 (dk_at dksX11_put_0 0 rfl rfl)
theorem dX11_put_1 : decode cX11_put 1 = .ok (.getfield 7, 3) := dk_180 0 7 (dk_at dksX11_put_0 1 rfl rfl)
theorem dX11_put_4 : decode cX11_put 4 = .ok (.iload_n 1, 1) := dk_27 (dk_at dksX11_put_0 4 rfl rfl)
theorem dX11_put_5 : decode cX11_put 5 = .ok (.lload_n 2, 1) := dk_32 (dk_at dksX11_put_0 5 rfl rfl)
theorem dX11_put_6 : decode cX11_put 6 = .ok (.l2i, 1) := dk_136 (dk_at dksX11_put_0 6 rfl rfl)
theorem dX11_put_7 : decode cX11_put 7 = .ok (.iastore, 1) := dk_79 (dk_at dksX11_put_0 7 rfl rfl)
theorem dX11_put_8 : decode cX11_put 8 = .ok (.return_, 1) := dk_177 (dk_at dksX11_put_0 8 rfl rfl)
abbrev cX11_sort : ByteArray := prog_11_method_2_code
def yX11_sort : MethodName := ⟨RX11, "sort", "()I"⟩
theorem dX11_sort_0 : decode cX11_sort 0 = .ok (.iconst 2, 1) := by decide +kernel
theorem dX11_sort_1 : decode cX11_sort 1 = .ok (.ireturn, 1) := by decide +kernel
abbrev cX11_held : ByteArray := prog_11_method_8_code
def yX11_held : MethodName := ⟨RX11, "held", "()Ljava/lang/Object;"⟩
theorem dX11_held_0 : decode cX11_held 0 = .ok (.aload_n 0, 1) := by decide +kernel
theorem dX11_held_1 : decode cX11_held 1 = .ok (.getfield 7, 3) := by decide +kernel
theorem dX11_held_4 : decode cX11_held 4 = .ok (.areturn, 1) := by decide +kernel
abbrev cX11_get : ByteArray := prog_11_method_5_code
def yX11_get : MethodName := ⟨RX11, "get", "(I)J"⟩
def dkwX11_get_0 : List UInt8 := [42, 180, 0, 7, 27, 46, 133, 173]
abbrev dktX11_get_0 : List UInt8 := dkwX11_get_0 ++ []
theorem dksX11_get_0 : cX11_get.data.toList.drop 0 = dktX11_get_0 := by decide +kernel
theorem dX11_get_0 : decode cX11_get 0 = .ok (.aload_n 0, 1) := dk_42 (dk_at dksX11_get_0 0 rfl rfl)
theorem dX11_get_1 : decode cX11_get 1 = .ok (.getfield 7, 3) := dk_180 0 7 (dk_at dksX11_get_0 1 rfl rfl)
theorem dX11_get_4 : decode cX11_get 4 = .ok (.iload_n 1, 1) := dk_27 (dk_at dksX11_get_0 4 rfl rfl)
theorem dX11_get_5 : decode cX11_get 5 = .ok (.iaload, 1) := dk_46 (dk_at dksX11_get_0 5 rfl rfl)
theorem dX11_get_6 : decode cX11_get 6 = .ok (.i2l, 1) := dk_133 (dk_at dksX11_get_0 6 rfl rfl)
theorem dX11_get_7 : decode cX11_get 7 = .ok (.lreturn, 1) := dk_173 (dk_at dksX11_get_0 7 rfl rfl)
abbrev cX11_length : ByteArray := prog_11_method_3_code
def yX11_length : MethodName := ⟨RX11, "length", "()I"⟩
def dkwX11_length_0 : List UInt8 := [42, 180, 0, 7, 190, 172]
abbrev dktX11_length_0 : List UInt8 := dkwX11_length_0 ++ []
theorem dksX11_length_0 : cX11_length.data.toList.drop 0 = dktX11_length_0 := by decide +kernel
theorem dX11_length_0 : decode cX11_length 0 = .ok (.aload_n 0, 1) := dk_42 (dk_at dksX11_length_0 0 rfl rfl)
theorem dX11_length_1 : decode cX11_length 1 = .ok (.getfield 7, 3) := dk_180 0 7 (dk_at dksX11_length_0 1 rfl rfl)
theorem dX11_length_4 : decode cX11_length 4 = .ok (.arraylength, 1) := dk_190 (dk_at dksX11_length_0 4 rfl rfl)
theorem dX11_length_5 : decode cX11_length 5 = .ok (.ireturn, 1) := dk_172 (dk_at dksX11_length_0 5 rfl rfl)
theorem q112 : (Jvm.Cond.initialized "InASackToTheRope$Ints") ∈ lw_all := lw_g (lw_at lw_m1 19 rfl) rfl
theorem q518 : (Jvm.Cond.instantiable "InASackToTheRope$Ints" (1 : Nat)) ∈ lw_all := lw_g (lw_at lw_m2 185 rfl) rfl
theorem q520 : (Jvm.Cond.instanceMethod ({ cls := "InASackToTheRope$Ints", name := "<init>", desc := "(I)V" } : Jvm.MethodName)) ∈ lw_all := lw_g (lw_at lw_m2 187 rfl) rfl
theorem q521 : (Jvm.Cond.code ({ cls := "InASackToTheRope$Ints", name := "<init>", desc := "(I)V" } : Jvm.MethodName) prog_11_method_1_code (2 : Nat) (Option.none : Option Jvm.ClassFile.FieldType)) ∈ lw_all := lw_g (lw_at lw_m2 188 rfl) rfl
theorem q522 : (Jvm.Cond.methodLink "InASackToTheRope$Ints" (1 : Nat) ({ cls := "InASackToTheRope$Row", name := "<init>", desc := "()V" } : Jvm.MethodName)) ∈ lw_all := lw_g (lw_at lw_m2 189 rfl) rfl
theorem q523 : (Jvm.Cond.fieldLink "InASackToTheRope$Ints" (7 : Nat) "InASackToTheRope$Ints" "e" "[I") ∈ lw_all := lw_g (lw_at lw_m2 190 rfl) rfl
theorem q524 : (Jvm.Cond.laysFinal "InASackToTheRope$Ints" "InASackToTheRope$Ints" "e" "[I") ∈ lw_all := lw_g (lw_at lw_m2 191 rfl) rfl
theorem q525 : (Jvm.Cond.soleField "InASackToTheRope$Ints" "e") ∈ lw_all := lw_g (lw_at lw_m2 192 rfl) rfl
theorem q526 : (Jvm.Cond.superclass "InASackToTheRope$Ints" "InASackToTheRope$Row") ∈ lw_all := lw_g (lw_at lw_m2 193 rfl) rfl
theorem q574 : (Jvm.Cond.selects "InASackToTheRope$Ints" ({ cls := "InASackToTheRope$Row", name := "put", desc := "(IJ)V" } : Jvm.MethodName) ({ cls := "InASackToTheRope$Ints", name := "put", desc := "(IJ)V" } : Jvm.MethodName)) ∈ lw_all := lw_g (lw_at lw_m3 1 rfl) rfl
theorem q575 : (Jvm.Cond.instanceMethod ({ cls := "InASackToTheRope$Ints", name := "put", desc := "(IJ)V" } : Jvm.MethodName)) ∈ lw_all := lw_g (lw_at lw_m3 2 rfl) rfl
theorem q576 : (Jvm.Cond.code ({ cls := "InASackToTheRope$Ints", name := "put", desc := "(IJ)V" } : Jvm.MethodName) prog_11_method_4_code (4 : Nat) (Option.none : Option Jvm.ClassFile.FieldType)) ∈ lw_all := lw_g (lw_at lw_m3 3 rfl) rfl
theorem q599 : (Jvm.Cond.selects "InASackToTheRope$Ints" ({ cls := "InASackToTheRope$Row", name := "sort", desc := "()I" } : Jvm.MethodName) ({ cls := "InASackToTheRope$Ints", name := "sort", desc := "()I" } : Jvm.MethodName)) ∈ lw_all := lw_g (lw_at lw_m3 26 rfl) rfl
theorem q600 : (Jvm.Cond.instanceMethod ({ cls := "InASackToTheRope$Ints", name := "sort", desc := "()I" } : Jvm.MethodName)) ∈ lw_all := lw_g (lw_at lw_m3 27 rfl) rfl
theorem q601 : (Jvm.Cond.code ({ cls := "InASackToTheRope$Ints", name := "sort", desc := "()I" } : Jvm.MethodName) prog_11_method_2_code (1 : Nat) (Option.some Jvm.ClassFile.FieldType.int)) ∈ lw_all := lw_g (lw_at lw_m3 28 rfl) rfl
theorem q614 : (Jvm.Cond.selects "InASackToTheRope$Ints" ({ cls := "InASackToTheRope$Row", name := "held", desc := "()Ljava/lang/Object;" } : Jvm.MethodName) ({ cls := "InASackToTheRope$Ints", name := "held", desc := "()Ljava/lang/Object;" } : Jvm.MethodName)) ∈ lw_all := lw_g (lw_at lw_m3 41 rfl) rfl
theorem q615 : (Jvm.Cond.instanceMethod ({ cls := "InASackToTheRope$Ints", name := "held", desc := "()Ljava/lang/Object;" } : Jvm.MethodName)) ∈ lw_all := lw_g (lw_at lw_m3 42 rfl) rfl
theorem q616 : (Jvm.Cond.code ({ cls := "InASackToTheRope$Ints", name := "held", desc := "()Ljava/lang/Object;" } : Jvm.MethodName) prog_11_method_8_code (1 : Nat) (Option.some (Jvm.ClassFile.FieldType.object "java/lang/Object"))) ∈ lw_all := lw_g (lw_at lw_m3 43 rfl) rfl
theorem q636 : (Jvm.Cond.selects "InASackToTheRope$Ints" ({ cls := "InASackToTheRope$Row", name := "get", desc := "(I)J" } : Jvm.MethodName) ({ cls := "InASackToTheRope$Ints", name := "get", desc := "(I)J" } : Jvm.MethodName)) ∈ lw_all := lw_g (lw_at lw_m3 63 rfl) rfl
theorem q637 : (Jvm.Cond.instanceMethod ({ cls := "InASackToTheRope$Ints", name := "get", desc := "(I)J" } : Jvm.MethodName)) ∈ lw_all := lw_g (lw_at lw_m3 64 rfl) rfl
theorem q638 : (Jvm.Cond.code ({ cls := "InASackToTheRope$Ints", name := "get", desc := "(I)J" } : Jvm.MethodName) prog_11_method_5_code (2 : Nat) (Option.some Jvm.ClassFile.FieldType.long)) ∈ lw_all := lw_g (lw_at lw_m3 65 rfl) rfl
theorem q995 : (Jvm.Cond.selects "InASackToTheRope$Ints" ({ cls := "InASackToTheRope$Row", name := "length", desc := "()I" } : Jvm.MethodName) ({ cls := "InASackToTheRope$Ints", name := "length", desc := "()I" } : Jvm.MethodName)) ∈ lw_all := lw_g (lw_at lw_m4 182 rfl) rfl
theorem q996 : (Jvm.Cond.instanceMethod ({ cls := "InASackToTheRope$Ints", name := "length", desc := "()I" } : Jvm.MethodName)) ∈ lw_all := lw_g (lw_at lw_m4 183 rfl) rfl
theorem q997 : (Jvm.Cond.code ({ cls := "InASackToTheRope$Ints", name := "length", desc := "()I" } : Jvm.MethodName) prog_11_method_3_code (1 : Nat) (Option.some Jvm.ClassFile.FieldType.int)) ∈ lw_all := lw_g (lw_at lw_m4 184 rfl) rfl
theorem q1008 : (Jvm.Cond.selects "InASackToTheRope$Ints" ({ cls := "InASackToTheRope$Row", name := "asInt", desc := "(I)I" } : Jvm.MethodName) ({ cls := "InASackToTheRope$Row", name := "asInt", desc := "(I)I" } : Jvm.MethodName)) ∈ lw_all := lw_g (lw_at lw_m4 195 rfl) rfl
theorem q2047 : (Jvm.Cond.castable "InASackToTheRope$Ints" "InASackToTheRope$Row") ∈ lw_tbl := lw_at lw_m9 34 rfl
theorem in_X11 : ∀ w ∈ wsX110, w ∈ lw_all := lw_in wsX110 [524] (by decide +kernel) (by decide +kernel)
/-! InASackToTheRope$Longs -/
set_option maxRecDepth 100000
def RX12 : String := "InASackToTheRope$Longs"
def TX12 : u_T := fun k => match k with
  | _ => ("InASackToTheRope$Longs", "e", "[J", true)
def tyX12 : Nat → FieldType := fun k => match k with
  | _ => .array .long
abbrev wsX120 : List Cond := u_ws RX12 TX12 1
theorem nmX12 : ∀ a, a < 1 → ∀ b, b < 1 → a ≠ b → (TX12 a).2.1 ≠ (TX12 b).2.1 := by decide +kernel
theorem tyX12_ok : ∀ k, k < 1 → parseFieldDescriptor (TX12 k).2.2.1 = some (tyX12 k) := by decide +kernel
abbrev cX12_init : ByteArray := prog_12_method_1_code
def yX12_init : MethodName := ⟨RX12, "<init>", "(I)V"⟩
def dkwX12_init_0 : List UInt8 := [42, 183, 0, 1, 42, 27, 188, 11, 181, 0, 7, 177]
abbrev dktX12_init_0 : List UInt8 := dkwX12_init_0 ++ []
theorem dksX12_init_0 : cX12_init.data.toList.drop 0 = dktX12_init_0 := by decide +kernel
theorem dX12_init_0 : decode cX12_init 0 = .ok (.aload_n 0, 1) := dk_42 (dk_at dksX12_init_0 0 rfl rfl)
theorem dX12_init_1 : decode cX12_init 1 = .ok (.invokespecial 1, 3) := dk_183 0 1 (dk_at dksX12_init_0 1 rfl rfl)
theorem dX12_init_4 : decode cX12_init 4 = .ok (.aload_n 0, 1) := dk_42 (dk_at dksX12_init_0 4 rfl rfl)
theorem dX12_init_5 : decode cX12_init 5 = .ok (.iload_n 1, 1) := dk_27 (dk_at dksX12_init_0 5 rfl rfl)
theorem dX12_init_6 : decode cX12_init 6 = .ok (.newarray .long, 2) := dk_188_11 (dk_at dksX12_init_0 6 rfl rfl)
theorem dX12_init_8 : decode cX12_init 8 = .ok (.putfield 7, 3) := dk_181 0 7 (dk_at dksX12_init_0 8 rfl rfl)
theorem dX12_init_11 : decode cX12_init 11 = .ok (.return_, 1) := dk_177 (dk_at dksX12_init_0 11 rfl rfl)
abbrev cX12_put : ByteArray := prog_12_method_4_code
def yX12_put : MethodName := ⟨RX12, "put", "(IJ)V"⟩
def dkwX12_put_0 : List UInt8 := [42, 180, 0, 7, 27, 32, 80, 177]
abbrev dktX12_put_0 : List UInt8 := dkwX12_put_0 ++ []
theorem dksX12_put_0 : cX12_put.data.toList.drop 0 = dktX12_put_0 := by decide +kernel
theorem dX12_put_0 : decode cX12_put 0 = .ok (.aload_n 0, 1) := dk_42 (dk_at dksX12_put_0 0 rfl rfl)
theorem dX12_put_1 : decode cX12_put 1 = .ok (.getfield 7, 3) := dk_180 0 7 (dk_at dksX12_put_0 1 rfl rfl)
theorem dX12_put_4 : decode cX12_put 4 = .ok (.iload_n 1, 1) := dk_27 (dk_at dksX12_put_0 4 rfl rfl)
theorem dX12_put_5 : decode cX12_put 5 = .ok (.lload_n 2, 1) := dk_32 (dk_at dksX12_put_0 5 rfl rfl)
theorem dX12_put_6 : decode cX12_put 6 = .ok (.lastore, 1) := dk_80 (dk_at dksX12_put_0 6 rfl rfl)
theorem dX12_put_7 : decode cX12_put 7 = .ok (.return_, 1) := dk_177 (dk_at dksX12_put_0 7 rfl rfl)
abbrev cX12_sort : ByteArray := prog_12_method_2_code
def yX12_sort : MethodName := ⟨RX12, "sort", "()I"⟩
theorem dX12_sort_0 : decode cX12_sort 0 = .ok (.iconst 3, 1) := by decide +kernel
theorem dX12_sort_1 : decode cX12_sort 1 = .ok (.ireturn, 1) := by decide +kernel
abbrev cX12_held : ByteArray := prog_12_method_8_code
def yX12_held : MethodName := ⟨RX12, "held", "()Ljava/lang/Object;"⟩
theorem dX12_held_0 : decode cX12_held 0 = .ok (.aload_n 0, 1) := by decide +kernel
theorem dX12_held_1 : decode cX12_held 1 = .ok (.getfield 7, 3) := by decide +kernel
theorem dX12_held_4 : decode cX12_held 4 = .ok (.areturn, 1) := by decide +kernel
abbrev cX12_get : ByteArray := prog_12_method_5_code
def yX12_get : MethodName := ⟨RX12, "get", "(I)J"⟩
def dkwX12_get_0 : List UInt8 := [42, 180, 0, 7, 27, 47, 173]
abbrev dktX12_get_0 : List UInt8 := dkwX12_get_0 ++ []
theorem dksX12_get_0 : cX12_get.data.toList.drop 0 = dktX12_get_0 := by decide +kernel
theorem dX12_get_0 : decode cX12_get 0 = .ok (.aload_n 0, 1) := dk_42 (dk_at dksX12_get_0 0 rfl rfl)
theorem dX12_get_1 : decode cX12_get 1 = .ok (.getfield 7, 3) := dk_180 0 7 (dk_at dksX12_get_0 1 rfl rfl)
theorem dX12_get_4 : decode cX12_get 4 = .ok (.iload_n 1, 1) := dk_27 (dk_at dksX12_get_0 4 rfl rfl)
theorem dX12_get_5 : decode cX12_get 5 = .ok (.laload, 1) := dk_47 (dk_at dksX12_get_0 5 rfl rfl)
theorem dX12_get_6 : decode cX12_get 6 = .ok (.lreturn, 1) := dk_173 (dk_at dksX12_get_0 6 rfl rfl)
abbrev cX12_length : ByteArray := prog_12_method_3_code
def yX12_length : MethodName := ⟨RX12, "length", "()I"⟩
def dkwX12_length_0 : List UInt8 := [42, 180, 0, 7, 190, 172]
abbrev dktX12_length_0 : List UInt8 := dkwX12_length_0 ++ []
theorem dksX12_length_0 : cX12_length.data.toList.drop 0 = dktX12_length_0 := by decide +kernel
theorem dX12_length_0 : decode cX12_length 0 = .ok (.aload_n 0, 1) := dk_42 (dk_at dksX12_length_0 0 rfl rfl)
theorem dX12_length_1 : decode cX12_length 1 = .ok (.getfield 7, 3) := dk_180 0 7 (dk_at dksX12_length_0 1 rfl rfl)
theorem dX12_length_4 : decode cX12_length 4 = .ok (.arraylength, 1) := dk_190 (dk_at dksX12_length_0 4 rfl rfl)
theorem dX12_length_5 : decode cX12_length 5 = .ok (.ireturn, 1) := dk_172 (dk_at dksX12_length_0 5 rfl rfl)
theorem q113 : (Jvm.Cond.initialized "InASackToTheRope$Longs") ∈ lw_all := lw_g (lw_at lw_m1 20 rfl) rfl
theorem q528 : (Jvm.Cond.instantiable "InASackToTheRope$Longs" (1 : Nat)) ∈ lw_all := lw_g (lw_at lw_m2 195 rfl) rfl
theorem q530 : (Jvm.Cond.instanceMethod ({ cls := "InASackToTheRope$Longs", name := "<init>", desc := "(I)V" } : Jvm.MethodName)) ∈ lw_all := lw_g (lw_at lw_m2 197 rfl) rfl
theorem q531 : (Jvm.Cond.code ({ cls := "InASackToTheRope$Longs", name := "<init>", desc := "(I)V" } : Jvm.MethodName) prog_12_method_1_code (2 : Nat) (Option.none : Option Jvm.ClassFile.FieldType)) ∈ lw_all := lw_g (lw_at lw_m2 198 rfl) rfl
theorem q532 : (Jvm.Cond.methodLink "InASackToTheRope$Longs" (1 : Nat) ({ cls := "InASackToTheRope$Row", name := "<init>", desc := "()V" } : Jvm.MethodName)) ∈ lw_all := lw_g (lw_at lw_m2 199 rfl) rfl
theorem q533 : (Jvm.Cond.fieldLink "InASackToTheRope$Longs" (7 : Nat) "InASackToTheRope$Longs" "e" "[J") ∈ lw_all := lw_g (lw_at lw_m2 200 rfl) rfl
theorem q534 : (Jvm.Cond.laysFinal "InASackToTheRope$Longs" "InASackToTheRope$Longs" "e" "[J") ∈ lw_all := lw_g (lw_at lw_m2 201 rfl) rfl
theorem q535 : (Jvm.Cond.soleField "InASackToTheRope$Longs" "e") ∈ lw_all := lw_g (lw_at lw_m2 202 rfl) rfl
theorem q536 : (Jvm.Cond.superclass "InASackToTheRope$Longs" "InASackToTheRope$Row") ∈ lw_all := lw_g (lw_at lw_m2 203 rfl) rfl
theorem q577 : (Jvm.Cond.selects "InASackToTheRope$Longs" ({ cls := "InASackToTheRope$Row", name := "put", desc := "(IJ)V" } : Jvm.MethodName) ({ cls := "InASackToTheRope$Longs", name := "put", desc := "(IJ)V" } : Jvm.MethodName)) ∈ lw_all := lw_g (lw_at lw_m3 4 rfl) rfl
theorem q578 : (Jvm.Cond.instanceMethod ({ cls := "InASackToTheRope$Longs", name := "put", desc := "(IJ)V" } : Jvm.MethodName)) ∈ lw_all := lw_g (lw_at lw_m3 5 rfl) rfl
theorem q579 : (Jvm.Cond.code ({ cls := "InASackToTheRope$Longs", name := "put", desc := "(IJ)V" } : Jvm.MethodName) prog_12_method_4_code (4 : Nat) (Option.none : Option Jvm.ClassFile.FieldType)) ∈ lw_all := lw_g (lw_at lw_m3 6 rfl) rfl
theorem q602 : (Jvm.Cond.selects "InASackToTheRope$Longs" ({ cls := "InASackToTheRope$Row", name := "sort", desc := "()I" } : Jvm.MethodName) ({ cls := "InASackToTheRope$Longs", name := "sort", desc := "()I" } : Jvm.MethodName)) ∈ lw_all := lw_g (lw_at lw_m3 29 rfl) rfl
theorem q603 : (Jvm.Cond.instanceMethod ({ cls := "InASackToTheRope$Longs", name := "sort", desc := "()I" } : Jvm.MethodName)) ∈ lw_all := lw_g (lw_at lw_m3 30 rfl) rfl
theorem q604 : (Jvm.Cond.code ({ cls := "InASackToTheRope$Longs", name := "sort", desc := "()I" } : Jvm.MethodName) prog_12_method_2_code (1 : Nat) (Option.some Jvm.ClassFile.FieldType.int)) ∈ lw_all := lw_g (lw_at lw_m3 31 rfl) rfl
theorem q617 : (Jvm.Cond.selects "InASackToTheRope$Longs" ({ cls := "InASackToTheRope$Row", name := "held", desc := "()Ljava/lang/Object;" } : Jvm.MethodName) ({ cls := "InASackToTheRope$Longs", name := "held", desc := "()Ljava/lang/Object;" } : Jvm.MethodName)) ∈ lw_all := lw_g (lw_at lw_m3 44 rfl) rfl
theorem q618 : (Jvm.Cond.instanceMethod ({ cls := "InASackToTheRope$Longs", name := "held", desc := "()Ljava/lang/Object;" } : Jvm.MethodName)) ∈ lw_all := lw_g (lw_at lw_m3 45 rfl) rfl
theorem q619 : (Jvm.Cond.code ({ cls := "InASackToTheRope$Longs", name := "held", desc := "()Ljava/lang/Object;" } : Jvm.MethodName) prog_12_method_8_code (1 : Nat) (Option.some (Jvm.ClassFile.FieldType.object "java/lang/Object"))) ∈ lw_all := lw_g (lw_at lw_m3 46 rfl) rfl
theorem q639 : (Jvm.Cond.selects "InASackToTheRope$Longs" ({ cls := "InASackToTheRope$Row", name := "get", desc := "(I)J" } : Jvm.MethodName) ({ cls := "InASackToTheRope$Longs", name := "get", desc := "(I)J" } : Jvm.MethodName)) ∈ lw_all := lw_g (lw_at lw_m3 66 rfl) rfl
theorem q640 : (Jvm.Cond.instanceMethod ({ cls := "InASackToTheRope$Longs", name := "get", desc := "(I)J" } : Jvm.MethodName)) ∈ lw_all := lw_g (lw_at lw_m3 67 rfl) rfl
theorem q641 : (Jvm.Cond.code ({ cls := "InASackToTheRope$Longs", name := "get", desc := "(I)J" } : Jvm.MethodName) prog_12_method_5_code (2 : Nat) (Option.some Jvm.ClassFile.FieldType.long)) ∈ lw_all := lw_g (lw_at lw_m3 68 rfl) rfl
theorem q998 : (Jvm.Cond.selects "InASackToTheRope$Longs" ({ cls := "InASackToTheRope$Row", name := "length", desc := "()I" } : Jvm.MethodName) ({ cls := "InASackToTheRope$Longs", name := "length", desc := "()I" } : Jvm.MethodName)) ∈ lw_all := lw_g (lw_at lw_m4 185 rfl) rfl
theorem q999 : (Jvm.Cond.instanceMethod ({ cls := "InASackToTheRope$Longs", name := "length", desc := "()I" } : Jvm.MethodName)) ∈ lw_all := lw_g (lw_at lw_m4 186 rfl) rfl
theorem q1000 : (Jvm.Cond.code ({ cls := "InASackToTheRope$Longs", name := "length", desc := "()I" } : Jvm.MethodName) prog_12_method_3_code (1 : Nat) (Option.some Jvm.ClassFile.FieldType.int)) ∈ lw_all := lw_g (lw_at lw_m4 187 rfl) rfl
theorem q1009 : (Jvm.Cond.selects "InASackToTheRope$Longs" ({ cls := "InASackToTheRope$Row", name := "asInt", desc := "(I)I" } : Jvm.MethodName) ({ cls := "InASackToTheRope$Row", name := "asInt", desc := "(I)I" } : Jvm.MethodName)) ∈ lw_all := lw_g (lw_at lw_m4 196 rfl) rfl
theorem q2048 : (Jvm.Cond.castable "InASackToTheRope$Longs" "InASackToTheRope$Row") ∈ lw_tbl := lw_at lw_m9 35 rfl
theorem in_X12 : ∀ w ∈ wsX120, w ∈ lw_all := lw_in wsX120 [534] (by decide +kernel) (by decide +kernel)
/-! InASackToTheRope$Hopper -/
set_option maxRecDepth 100000
def RX13 : String := "InASackToTheRope$Hopper"
def TX13 : u_T := fun k => match k with
  | 0 => ("InASackToTheRope$Hopper", "index", "I", true)
  | _ => ("InASackToTheRope$Hopper", "by", "I", true)
def tyX13 : Nat → FieldType := fun k => match k with
  | 0 => .int
  | _ => .int
abbrev wsX130 : List Cond := u_ws RX13 TX13 2
theorem nmX13 : ∀ a, a < 2 → ∀ b, b < 2 → a ≠ b → (TX13 a).2.1 ≠ (TX13 b).2.1 := by decide +kernel
theorem tyX13_ok : ∀ k, k < 2 → parseFieldDescriptor (TX13 k).2.2.1 = some (tyX13 k) := by decide +kernel
abbrev cX13_puff : ByteArray := prog_10_method_4_code
def yX13_puff : MethodName := ⟨RX13, "puff", "()I"⟩
theorem dX13_puff_0 : decode cX13_puff 0 = .ok (.iconst 2, 1) := by decide +kernel
theorem dX13_puff_1 : decode cX13_puff 1 = .ok (.ireturn, 1) := by decide +kernel
abbrev cX13_stride : ByteArray := prog_10_method_3_code
def yX13_stride : MethodName := ⟨RX13, "stride", "(II)I"⟩
theorem dX13_stride_0 : decode cX13_stride 0 = .ok (.iload_n 1, 1) := by decide +kernel
theorem dX13_stride_1 : decode cX13_stride 1 = .ok (.ireturn, 1) := by decide +kernel
abbrev cX13_risk : ByteArray := prog_10_method_5_code
def yX13_risk : MethodName := ⟨RX13, "risk", "(III)I"⟩
def dkwX13_risk_0 : List UInt8 := [8, 28, 104, 6, 29, 104, 96, 42, 27, 28, 182, 0, 16, 96, 172]
abbrev dktX13_risk_0 : List UInt8 := dkwX13_risk_0 ++ []
theorem dksX13_risk_0 : cX13_risk.data.toList.drop 0 = dktX13_risk_0 := by decide +kernel
theorem dX13_risk_0 : decode cX13_risk 0 = .ok (.iconst 5, 1) := dk_8 (dk_at dksX13_risk_0 0 rfl rfl)
theorem dX13_risk_1 : decode cX13_risk 1 = .ok (.iload_n 2, 1) := dk_28 (dk_at dksX13_risk_0 1 rfl rfl)
theorem dX13_risk_2 : decode cX13_risk 2 = .ok (.imul, 1) := dk_104 (dk_at dksX13_risk_0 2 rfl rfl)
theorem dX13_risk_3 : decode cX13_risk 3 = .ok (.iconst 3, 1) := dk_6 (dk_at dksX13_risk_0 3 rfl rfl)
theorem dX13_risk_4 : decode cX13_risk 4 = .ok (.iload_n 3, 1) := dk_29 (dk_at dksX13_risk_0 4 rfl rfl)
theorem dX13_risk_5 : decode cX13_risk 5 = .ok (.imul, 1) := dk_104 (dk_at dksX13_risk_0 5 rfl rfl)
theorem dX13_risk_6 : decode cX13_risk 6 = .ok (.iadd, 1) := dk_96 (dk_at dksX13_risk_0 6 rfl rfl)
theorem dX13_risk_7 : decode cX13_risk 7 = .ok (.aload_n 0, 1) := dk_42 (dk_at dksX13_risk_0 7 rfl rfl)
theorem dX13_risk_8 : decode cX13_risk 8 = .ok (.iload_n 1, 1) := dk_27 (dk_at dksX13_risk_0 8 rfl rfl)
theorem dX13_risk_9 : decode cX13_risk 9 = .ok (.iload_n 2, 1) := dk_28 (dk_at dksX13_risk_0 9 rfl rfl)
theorem dX13_risk_10 : decode cX13_risk 10 = .ok (.invokevirtual 16, 3) := dk_182 0 16 (dk_at dksX13_risk_0 10 rfl rfl)
theorem dX13_risk_13 : decode cX13_risk 13 = .ok (.iadd, 1) := dk_96 (dk_at dksX13_risk_0 13 rfl rfl)
theorem dX13_risk_14 : decode cX13_risk 14 = .ok (.ireturn, 1) := dk_172 (dk_at dksX13_risk_0 14 rfl rfl)
abbrev cX13_init : ByteArray := prog_10_method_1_code
def yX13_init : MethodName := ⟨RX13, "<init>", "(II)V"⟩
def dkwX13_init_0 : List UInt8 := [42, 183, 0, 1, 42, 27, 181, 0, 7, 42, 28, 181, 0, 13, 177]
abbrev dktX13_init_0 : List UInt8 := dkwX13_init_0 ++ []
theorem dksX13_init_0 : cX13_init.data.toList.drop 0 = dktX13_init_0 := by decide +kernel
theorem dX13_init_0 : decode cX13_init 0 = .ok (.aload_n 0, 1) := dk_42 (dk_at dksX13_init_0 0 rfl rfl)
theorem dX13_init_1 : decode cX13_init 1 = .ok (.invokespecial 1, 3) := dk_183 0 1 (dk_at dksX13_init_0 1 rfl rfl)
theorem dX13_init_4 : decode cX13_init 4 = .ok (.aload_n 0, 1) := dk_42 (dk_at dksX13_init_0 4 rfl rfl)
theorem dX13_init_5 : decode cX13_init 5 = .ok (.iload_n 1, 1) := dk_27 (dk_at dksX13_init_0 5 rfl rfl)
theorem dX13_init_6 : decode cX13_init 6 = .ok (.putfield 7, 3) := dk_181 0 7 (dk_at dksX13_init_0 6 rfl rfl)
theorem dX13_init_9 : decode cX13_init 9 = .ok (.aload_n 0, 1) := dk_42 (dk_at dksX13_init_0 9 rfl rfl)
theorem dX13_init_10 : decode cX13_init 10 = .ok (.iload_n 2, 1) := dk_28 (dk_at dksX13_init_0 10 rfl rfl)
theorem dX13_init_11 : decode cX13_init 11 = .ok (.putfield 13, 3) := dk_181 0 13 (dk_at dksX13_init_0 11 rfl rfl)
theorem dX13_init_14 : decode cX13_init 14 = .ok (.return_, 1) := dk_177 (dk_at dksX13_init_0 14 rfl rfl)
abbrev cX13_kind : ByteArray := prog_10_method_2_code
def yX13_kind : MethodName := ⟨RX13, "kind", "()I"⟩
theorem dX13_kind_0 : decode cX13_kind 0 = .ok (.iconst 0, 1) := by decide +kernel
theorem dX13_kind_1 : decode cX13_kind 1 = .ok (.ireturn, 1) := by decide +kernel
abbrev cX13_hopping : ByteArray := prog_10_method_6_code
def yX13_hopping : MethodName := ⟨RX13, "hopping", "(ILInASackToTheRope$Trace;)I"⟩
def dkwX13_hopping_0 : List UInt8 := [44, 16, 10, 182, 0, 20, 27, 42, 180, 0, 7, 96, 172]
abbrev dktX13_hopping_0 : List UInt8 := dkwX13_hopping_0 ++ []
theorem dksX13_hopping_0 : cX13_hopping.data.toList.drop 0 = dktX13_hopping_0 := by decide +kernel
theorem dX13_hopping_0 : decode cX13_hopping 0 = .ok (.aload_n 2, 1) := dk_44 (dk_at dksX13_hopping_0 0 rfl rfl)
theorem dX13_hopping_1 : decode cX13_hopping 1 = .ok (.bipush 10, 2) := dk_16 10 (dk_at dksX13_hopping_0 1 rfl rfl)
theorem dX13_hopping_3 : decode cX13_hopping 3 = .ok (.invokevirtual 20, 3) := dk_182 0 20 (dk_at dksX13_hopping_0 3 rfl rfl)
theorem dX13_hopping_6 : decode cX13_hopping 6 = .ok (.iload_n 1, 1) := dk_27 (dk_at dksX13_hopping_0 6 rfl rfl)
theorem dX13_hopping_7 : decode cX13_hopping 7 = .ok (.aload_n 0, 1) := dk_42 (dk_at dksX13_hopping_0 7 rfl rfl)
theorem dX13_hopping_8 : decode cX13_hopping 8 = .ok (.getfield 7, 3) := dk_180 0 7 (dk_at dksX13_hopping_0 8 rfl rfl)
theorem dX13_hopping_11 : decode cX13_hopping 11 = .ok (.iadd, 1) := dk_96 (dk_at dksX13_hopping_0 11 rfl rfl)
theorem dX13_hopping_12 : decode cX13_hopping 12 = .ok (.ireturn, 1) := dk_172 (dk_at dksX13_hopping_0 12 rfl rfl)
abbrev cX13_falling : ByteArray := prog_10_method_7_code
def yX13_falling : MethodName := ⟨RX13, "falling", "(ILInASackToTheRope$Trace;)I"⟩
def dkwX13_falling_0 : List UInt8 := [44, 16, 11, 182, 0, 20, 42, 27, 44, 182, 0, 26, 5, 104, 172]
abbrev dktX13_falling_0 : List UInt8 := dkwX13_falling_0 ++ []
theorem dksX13_falling_0 : cX13_falling.data.toList.drop 0 = dktX13_falling_0 := by decide +kernel
theorem dX13_falling_0 : decode cX13_falling 0 = .ok (.aload_n 2, 1) := dk_44 (dk_at dksX13_falling_0 0 rfl rfl)
theorem dX13_falling_1 : decode cX13_falling 1 = .ok (.bipush 11, 2) := dk_16 11 (dk_at dksX13_falling_0 1 rfl rfl)
theorem dX13_falling_3 : decode cX13_falling 3 = .ok (.invokevirtual 20, 3) := dk_182 0 20 (dk_at dksX13_falling_0 3 rfl rfl)
theorem dX13_falling_6 : decode cX13_falling 6 = .ok (.aload_n 0, 1) := dk_42 (dk_at dksX13_falling_0 6 rfl rfl)
theorem dX13_falling_7 : decode cX13_falling 7 = .ok (.iload_n 1, 1) := dk_27 (dk_at dksX13_falling_0 7 rfl rfl)
theorem dX13_falling_8 : decode cX13_falling 8 = .ok (.aload_n 2, 1) := dk_44 (dk_at dksX13_falling_0 8 rfl rfl)
theorem dX13_falling_9 : decode cX13_falling 9 = .ok (.invokevirtual 26, 3) := dk_182 0 26 (dk_at dksX13_falling_0 9 rfl rfl)
theorem dX13_falling_12 : decode cX13_falling 12 = .ok (.iconst 2, 1) := dk_5 (dk_at dksX13_falling_0 12 rfl rfl)
theorem dX13_falling_13 : decode cX13_falling 13 = .ok (.imul, 1) := dk_104 (dk_at dksX13_falling_0 13 rfl rfl)
theorem dX13_falling_14 : decode cX13_falling 14 = .ok (.ireturn, 1) := dk_172 (dk_at dksX13_falling_0 14 rfl rfl)
abbrev cX13_rising : ByteArray := prog_10_method_8_code
def yX13_rising : MethodName := ⟨RX13, "rising", "(ILInASackToTheRope$Trace;)I"⟩
def dkwX13_rising_1 : List UInt8 := [182, 0, 26, 130, 172]
abbrev dktX13_rising_1 : List UInt8 := dkwX13_rising_1 ++ []
def dkwX13_rising_0 : List UInt8 := [44, 16, 12, 182, 0, 20, 42, 27, 44, 182, 0, 30, 62, 29, 42, 27, 42, 180, 0, 13, 100, 44]
abbrev dktX13_rising_0 : List UInt8 := dkwX13_rising_0 ++ dktX13_rising_1
theorem dksX13_rising_0 : cX13_rising.data.toList.drop 0 = dktX13_rising_0 := by decide +kernel
theorem dksX13_rising_1 : cX13_rising.data.toList.drop 22 = dktX13_rising_1 := dk_seg dksX13_rising_0 22 rfl rfl
theorem dX13_rising_0 : decode cX13_rising 0 = .ok (.aload_n 2, 1) := dk_44 (dk_at dksX13_rising_0 0 rfl rfl)
theorem dX13_rising_1 : decode cX13_rising 1 = .ok (.bipush 12, 2) := dk_16 12 (dk_at dksX13_rising_0 1 rfl rfl)
theorem dX13_rising_3 : decode cX13_rising 3 = .ok (.invokevirtual 20, 3) := dk_182 0 20 (dk_at dksX13_rising_0 3 rfl rfl)
theorem dX13_rising_6 : decode cX13_rising 6 = .ok (.aload_n 0, 1) := dk_42 (dk_at dksX13_rising_0 6 rfl rfl)
theorem dX13_rising_7 : decode cX13_rising 7 = .ok (.iload_n 1, 1) := dk_27 (dk_at dksX13_rising_0 7 rfl rfl)
theorem dX13_rising_8 : decode cX13_rising 8 = .ok (.aload_n 2, 1) := dk_44 (dk_at dksX13_rising_0 8 rfl rfl)
theorem dX13_rising_9 : decode cX13_rising 9 = .ok (.invokevirtual 30, 3) := dk_182 0 30 (dk_at dksX13_rising_0 9 rfl rfl)
theorem dX13_rising_12 : decode cX13_rising 12 = .ok (.istore_n 3, 1) := dk_62 (dk_at dksX13_rising_0 12 rfl rfl)
theorem dX13_rising_13 : decode cX13_rising 13 = .ok (.iload_n 3, 1) := dk_29 (dk_at dksX13_rising_0 13 rfl rfl)
theorem dX13_rising_14 : decode cX13_rising 14 = .ok (.aload_n 0, 1) := dk_42 (dk_at dksX13_rising_0 14 rfl rfl)
theorem dX13_rising_15 : decode cX13_rising 15 = .ok (.iload_n 1, 1) := dk_27 (dk_at dksX13_rising_0 15 rfl rfl)
theorem dX13_rising_16 : decode cX13_rising 16 = .ok (.aload_n 0, 1) := dk_42 (dk_at dksX13_rising_0 16 rfl rfl)
theorem dX13_rising_17 : decode cX13_rising 17 = .ok (.getfield 13, 3) := dk_180 0 13 (dk_at dksX13_rising_0 17 rfl rfl)
theorem dX13_rising_20 : decode cX13_rising 20 = .ok (.isub, 1) := dk_100 (dk_at dksX13_rising_0 20 rfl rfl)
theorem dX13_rising_21 : decode cX13_rising 21 = .ok (.aload_n 2, 1) := dk_44 (dk_at dksX13_rising_0 21 rfl rfl)
theorem dX13_rising_22 : decode cX13_rising 22 = .ok (.invokevirtual 26, 3) := dk_182 0 26 (dk_at dksX13_rising_1 0 rfl rfl)
theorem dX13_rising_25 : decode cX13_rising 25 = .ok (.ixor, 1) := dk_130 (dk_at dksX13_rising_1 3 rfl rfl)
theorem dX13_rising_26 : decode cX13_rising 26 = .ok (.ireturn, 1) := dk_172 (dk_at dksX13_rising_1 4 rfl rfl)
theorem q117 : (Jvm.Cond.initialized "InASackToTheRope$Hopper") ∈ lw_all := lw_g (lw_at lw_m1 24 rfl) rfl
theorem q686 : (Jvm.Cond.instanceMethod ({ cls := "InASackToTheRope$Hopper", name := "puff", desc := "()I" } : Jvm.MethodName)) ∈ lw_all := lw_g (lw_at lw_m3 113 rfl) rfl
theorem q687 : (Jvm.Cond.code ({ cls := "InASackToTheRope$Hopper", name := "puff", desc := "()I" } : Jvm.MethodName) prog_10_method_4_code (1 : Nat) (Option.some Jvm.ClassFile.FieldType.int)) ∈ lw_all := lw_g (lw_at lw_m3 114 rfl) rfl
theorem q705 : (Jvm.Cond.instanceMethod ({ cls := "InASackToTheRope$Hopper", name := "stride", desc := "(II)I" } : Jvm.MethodName)) ∈ lw_all := lw_g (lw_at lw_m3 132 rfl) rfl
theorem q706 : (Jvm.Cond.selects "InASackToTheRope$Hopper" ({ cls := "InASackToTheRope$Hopper", name := "stride", desc := "(II)I" } : Jvm.MethodName) ({ cls := "InASackToTheRope$Hopper", name := "stride", desc := "(II)I" } : Jvm.MethodName)) ∈ lw_all := lw_g (lw_at lw_m3 133 rfl) rfl
theorem q707 : (Jvm.Cond.sameMethod "InASackToTheRope$Hopper" "InASackToTheRope$Hopper" "stride" "(II)I") ∈ lw_all := lw_g (lw_at lw_m3 134 rfl) rfl
theorem q715 : (Jvm.Cond.code ({ cls := "InASackToTheRope$Hopper", name := "stride", desc := "(II)I" } : Jvm.MethodName) prog_10_method_3_code (3 : Nat) (Option.some Jvm.ClassFile.FieldType.int)) ∈ lw_all := lw_g (lw_at lw_m3 142 rfl) rfl
theorem q754 : (Jvm.Cond.instanceMethod ({ cls := "InASackToTheRope$Hopper", name := "risk", desc := "(III)I" } : Jvm.MethodName)) ∈ lw_all := lw_g (lw_at lw_m3 181 rfl) rfl
theorem q755 : (Jvm.Cond.selects "InASackToTheRope$Hopper" ({ cls := "InASackToTheRope$Hopper", name := "risk", desc := "(III)I" } : Jvm.MethodName) ({ cls := "InASackToTheRope$Hopper", name := "risk", desc := "(III)I" } : Jvm.MethodName)) ∈ lw_all := lw_g (lw_at lw_m3 182 rfl) rfl
theorem q756 : (Jvm.Cond.sameMethod "InASackToTheRope$Hopper" "InASackToTheRope$Hopper" "risk" "(III)I") ∈ lw_all := lw_g (lw_at lw_m3 183 rfl) rfl
theorem q766 : (Jvm.Cond.code ({ cls := "InASackToTheRope$Hopper", name := "risk", desc := "(III)I" } : Jvm.MethodName) prog_10_method_5_code (4 : Nat) (Option.some Jvm.ClassFile.FieldType.int)) ∈ lw_all := lw_g (lw_at lw_m3 193 rfl) rfl
theorem q767 : (Jvm.Cond.methodLink "InASackToTheRope$Hopper" (16 : Nat) ({ cls := "InASackToTheRope$Hopper", name := "stride", desc := "(II)I" } : Jvm.MethodName)) ∈ lw_all := lw_g (lw_at lw_m3 194 rfl) rfl
theorem q789 : (Jvm.Cond.instanceMethod ({ cls := "InASackToTheRope$Hopper", name := "<init>", desc := "(II)V" } : Jvm.MethodName)) ∈ lw_all := lw_g (lw_at lw_m3 216 rfl) rfl
theorem q790 : (Jvm.Cond.code ({ cls := "InASackToTheRope$Hopper", name := "<init>", desc := "(II)V" } : Jvm.MethodName) prog_10_method_1_code (3 : Nat) (Option.none : Option Jvm.ClassFile.FieldType)) ∈ lw_all := lw_g (lw_at lw_m3 217 rfl) rfl
theorem q791 : (Jvm.Cond.methodLink "InASackToTheRope$Hopper" (1 : Nat) ({ cls := "java/lang/Object", name := "<init>", desc := "()V" } : Jvm.MethodName)) ∈ lw_all := lw_g (lw_at lw_m3 218 rfl) rfl
theorem q792 : (Jvm.Cond.fieldLink "InASackToTheRope$Hopper" (7 : Nat) "InASackToTheRope$Hopper" "index" "I") ∈ lw_all := lw_g (lw_at lw_m3 219 rfl) rfl
theorem q804 : (Jvm.Cond.fieldLink "InASackToTheRope$Hopper" (13 : Nat) "InASackToTheRope$Hopper" "by" "I") ∈ lw_all := lw_g (lw_at lw_m3 231 rfl) rfl
theorem q813 : (Jvm.Cond.soleField "InASackToTheRope$Hopper" "index") ∈ lw_all := lw_g (lw_at lw_m4 0 rfl) rfl
theorem q815 : (Jvm.Cond.soleField "InASackToTheRope$Hopper" "by") ∈ lw_all := lw_g (lw_at lw_m4 2 rfl) rfl
theorem q857 : (Jvm.Cond.instantiable "InASackToTheRope$Hopper" (2 : Nat)) ∈ lw_all := lw_g (lw_at lw_m4 44 rfl) rfl
theorem q859 : (Jvm.Cond.laysFinal "InASackToTheRope$Hopper" "InASackToTheRope$Hopper" "index" "I") ∈ lw_all := lw_g (lw_at lw_m4 46 rfl) rfl
theorem q860 : (Jvm.Cond.laysFinal "InASackToTheRope$Hopper" "InASackToTheRope$Hopper" "by" "I") ∈ lw_all := lw_g (lw_at lw_m4 47 rfl) rfl
theorem q861 : (Jvm.Cond.superclass "InASackToTheRope$Hopper" "java/lang/Object") ∈ lw_all := lw_g (lw_at lw_m4 48 rfl) rfl
theorem q879 : (Jvm.Cond.instanceMethod ({ cls := "InASackToTheRope$Hopper", name := "kind", desc := "()I" } : Jvm.MethodName)) ∈ lw_all := lw_g (lw_at lw_m4 66 rfl) rfl
theorem q880 : (Jvm.Cond.selects "InASackToTheRope$Hopper" ({ cls := "InASackToTheRope$Hopper", name := "kind", desc := "()I" } : Jvm.MethodName) ({ cls := "InASackToTheRope$Hopper", name := "kind", desc := "()I" } : Jvm.MethodName)) ∈ lw_all := lw_g (lw_at lw_m4 67 rfl) rfl
theorem q881 : (Jvm.Cond.sameMethod "InASackToTheRope$Hopper" "InASackToTheRope$Hopper" "kind" "()I") ∈ lw_all := lw_g (lw_at lw_m4 68 rfl) rfl
theorem q900 : (Jvm.Cond.code ({ cls := "InASackToTheRope$Hopper", name := "kind", desc := "()I" } : Jvm.MethodName) prog_10_method_2_code (1 : Nat) (Option.some Jvm.ClassFile.FieldType.int)) ∈ lw_all := lw_g (lw_at lw_m4 87 rfl) rfl
theorem q1375 : (Jvm.Cond.instanceMethod ({ cls := "InASackToTheRope$Hopper", name := "hopping", desc := "(ILInASackToTheRope$Trace;)I" } : Jvm.MethodName)) ∈ lw_all := lw_g (lw_at lw_m6 82 rfl) rfl
theorem q1376 : (Jvm.Cond.selects "InASackToTheRope$Hopper" ({ cls := "InASackToTheRope$Hopper", name := "hopping", desc := "(ILInASackToTheRope$Trace;)I" } : Jvm.MethodName) ({ cls := "InASackToTheRope$Hopper", name := "hopping", desc := "(ILInASackToTheRope$Trace;)I" } : Jvm.MethodName)) ∈ lw_all := lw_g (lw_at lw_m6 83 rfl) rfl
theorem q1377 : (Jvm.Cond.sameMethod "InASackToTheRope$Hopper" "InASackToTheRope$Hopper" "hopping" "(ILInASackToTheRope$Trace;)I") ∈ lw_all := lw_g (lw_at lw_m6 84 rfl) rfl
theorem q1386 : (Jvm.Cond.code ({ cls := "InASackToTheRope$Hopper", name := "hopping", desc := "(ILInASackToTheRope$Trace;)I" } : Jvm.MethodName) prog_10_method_6_code (3 : Nat) (Option.some Jvm.ClassFile.FieldType.int)) ∈ lw_all := lw_g (lw_at lw_m6 93 rfl) rfl
theorem q1387 : (Jvm.Cond.methodLink "InASackToTheRope$Hopper" (20 : Nat) ({ cls := "InASackToTheRope$Trace", name := "runs", desc := "(I)V" } : Jvm.MethodName)) ∈ lw_all := lw_g (lw_at lw_m6 94 rfl) rfl
theorem q1402 : (Jvm.Cond.instanceMethod ({ cls := "InASackToTheRope$Hopper", name := "falling", desc := "(ILInASackToTheRope$Trace;)I" } : Jvm.MethodName)) ∈ lw_all := lw_g (lw_at lw_m6 109 rfl) rfl
theorem q1403 : (Jvm.Cond.selects "InASackToTheRope$Hopper" ({ cls := "InASackToTheRope$Hopper", name := "falling", desc := "(ILInASackToTheRope$Trace;)I" } : Jvm.MethodName) ({ cls := "InASackToTheRope$Hopper", name := "falling", desc := "(ILInASackToTheRope$Trace;)I" } : Jvm.MethodName)) ∈ lw_all := lw_g (lw_at lw_m6 110 rfl) rfl
theorem q1404 : (Jvm.Cond.sameMethod "InASackToTheRope$Hopper" "InASackToTheRope$Hopper" "falling" "(ILInASackToTheRope$Trace;)I") ∈ lw_all := lw_g (lw_at lw_m6 111 rfl) rfl
theorem q1411 : (Jvm.Cond.declares ({ cls := "InASackToTheRope$Hopper", name := "falling", desc := "(ILInASackToTheRope$Trace;)I" } : Jvm.MethodName)) ∈ lw_tbl := lw_at lw_m6 118 rfl
theorem q1412 : (Jvm.Cond.code ({ cls := "InASackToTheRope$Hopper", name := "falling", desc := "(ILInASackToTheRope$Trace;)I" } : Jvm.MethodName) prog_10_method_7_code (3 : Nat) (Option.some Jvm.ClassFile.FieldType.int)) ∈ lw_all := lw_g (lw_at lw_m6 119 rfl) rfl
theorem q1413 : (Jvm.Cond.methodLink "InASackToTheRope$Hopper" (26 : Nat) ({ cls := "InASackToTheRope$Hopper", name := "hopping", desc := "(ILInASackToTheRope$Trace;)I" } : Jvm.MethodName)) ∈ lw_all := lw_g (lw_at lw_m6 120 rfl) rfl
theorem q1428 : (Jvm.Cond.instanceMethod ({ cls := "InASackToTheRope$Hopper", name := "rising", desc := "(ILInASackToTheRope$Trace;)I" } : Jvm.MethodName)) ∈ lw_all := lw_g (lw_at lw_m6 135 rfl) rfl
theorem q1429 : (Jvm.Cond.selects "InASackToTheRope$Hopper" ({ cls := "InASackToTheRope$Hopper", name := "rising", desc := "(ILInASackToTheRope$Trace;)I" } : Jvm.MethodName) ({ cls := "InASackToTheRope$Hopper", name := "rising", desc := "(ILInASackToTheRope$Trace;)I" } : Jvm.MethodName)) ∈ lw_all := lw_g (lw_at lw_m6 136 rfl) rfl
theorem q1430 : (Jvm.Cond.sameMethod "InASackToTheRope$Hopper" "InASackToTheRope$Hopper" "rising" "(ILInASackToTheRope$Trace;)I") ∈ lw_all := lw_g (lw_at lw_m6 137 rfl) rfl
theorem q1440 : (Jvm.Cond.declares ({ cls := "InASackToTheRope$Hopper", name := "rising", desc := "(ILInASackToTheRope$Trace;)I" } : Jvm.MethodName)) ∈ lw_tbl := lw_at lw_m6 147 rfl
theorem q1441 : (Jvm.Cond.code ({ cls := "InASackToTheRope$Hopper", name := "rising", desc := "(ILInASackToTheRope$Trace;)I" } : Jvm.MethodName) prog_10_method_8_code (4 : Nat) (Option.some Jvm.ClassFile.FieldType.int)) ∈ lw_all := lw_g (lw_at lw_m6 148 rfl) rfl
theorem q1442 : (Jvm.Cond.methodLink "InASackToTheRope$Hopper" (30 : Nat) ({ cls := "InASackToTheRope$Hopper", name := "falling", desc := "(ILInASackToTheRope$Trace;)I" } : Jvm.MethodName)) ∈ lw_all := lw_g (lw_at lw_m6 149 rfl) rfl
theorem q2033 : (Jvm.Cond.sameMethod "InASackToTheRope$Hopper" "InASackToTheRope$Hopper" "puff" "()I") ∈ lw_all := lw_g (lw_at lw_m9 20 rfl) rfl
theorem q2040 : (Jvm.Cond.selects "InASackToTheRope$Hopper" ({ cls := "InASackToTheRope$Hopper", name := "puff", desc := "()I" } : Jvm.MethodName) ({ cls := "InASackToTheRope$Hopper", name := "puff", desc := "()I" } : Jvm.MethodName)) ∈ lw_all := lw_g (lw_at lw_m9 27 rfl) rfl
theorem in_X13 : ∀ w ∈ wsX130, w ∈ lw_all := lw_in wsX130 [859, 860] (by decide +kernel) (by decide +kernel)
/-! InASackToTheRope$Even -/
set_option maxRecDepth 100000
def RX14 : String := "InASackToTheRope$Even"
def TX14 : u_T := fun k => match k with
  | 0 => ("InASackToTheRope$Hopper", "index", "I", true)
  | _ => ("InASackToTheRope$Hopper", "by", "I", true)
def tyX14 : Nat → FieldType := fun k => match k with
  | 0 => .int
  | _ => .int
abbrev wsX140 : List Cond := u_ws RX14 TX14 2
theorem nmX14 : ∀ a, a < 2 → ∀ b, b < 2 → a ≠ b → (TX14 a).2.1 ≠ (TX14 b).2.1 := by decide +kernel
theorem tyX14_ok : ∀ k, k < 2 → parseFieldDescriptor (TX14 k).2.2.1 = some (tyX14 k) := by decide +kernel
abbrev cX14_puff : ByteArray := prog_4_method_4_code
def yX14_puff : MethodName := ⟨RX14, "puff", "()I"⟩
def dkwX14_puff_0 : List UInt8 := [42, 183, 0, 18, 4, 100, 172]
abbrev dktX14_puff_0 : List UInt8 := dkwX14_puff_0 ++ []
theorem dksX14_puff_0 : cX14_puff.data.toList.drop 0 = dktX14_puff_0 := by decide +kernel
theorem dX14_puff_0 : decode cX14_puff 0 = .ok (.aload_n 0, 1) := dk_42 (dk_at dksX14_puff_0 0 rfl rfl)
theorem dX14_puff_1 : decode cX14_puff 1 = .ok (.invokespecial 18, 3) := dk_183 0 18 (dk_at dksX14_puff_0 1 rfl rfl)
theorem dX14_puff_4 : decode cX14_puff 4 = .ok (.iconst 1, 1) := dk_4 (dk_at dksX14_puff_0 4 rfl rfl)
theorem dX14_puff_5 : decode cX14_puff 5 = .ok (.isub, 1) := dk_100 (dk_at dksX14_puff_0 5 rfl rfl)
theorem dX14_puff_6 : decode cX14_puff 6 = .ok (.ireturn, 1) := dk_172 (dk_at dksX14_puff_0 6 rfl rfl)
abbrev cX14_stride : ByteArray := prog_4_method_3_code
def yX14_stride : MethodName := ⟨RX14, "stride", "(II)I"⟩
def dkwX14_stride_0 : List UInt8 := [4, 42, 27, 28, 183, 0, 9, 4, 100, 184, 0, 13, 172]
abbrev dktX14_stride_0 : List UInt8 := dkwX14_stride_0 ++ []
theorem dksX14_stride_0 : cX14_stride.data.toList.drop 0 = dktX14_stride_0 := by decide +kernel
theorem dX14_stride_0 : decode cX14_stride 0 = .ok (.iconst 1, 1) := dk_4 (dk_at dksX14_stride_0 0 rfl rfl)
theorem dX14_stride_1 : decode cX14_stride 1 = .ok (.aload_n 0, 1) := dk_42 (dk_at dksX14_stride_0 1 rfl rfl)
theorem dX14_stride_2 : decode cX14_stride 2 = .ok (.iload_n 1, 1) := dk_27 (dk_at dksX14_stride_0 2 rfl rfl)
theorem dX14_stride_3 : decode cX14_stride 3 = .ok (.iload_n 2, 1) := dk_28 (dk_at dksX14_stride_0 3 rfl rfl)
theorem dX14_stride_4 : decode cX14_stride 4 = .ok (.invokespecial 9, 3) := dk_183 0 9 (dk_at dksX14_stride_0 4 rfl rfl)
theorem dX14_stride_7 : decode cX14_stride 7 = .ok (.iconst 1, 1) := dk_4 (dk_at dksX14_stride_0 7 rfl rfl)
theorem dX14_stride_8 : decode cX14_stride 8 = .ok (.isub, 1) := dk_100 (dk_at dksX14_stride_0 8 rfl rfl)
theorem dX14_stride_9 : decode cX14_stride 9 = .ok (.invokestatic 13, 3) := dk_184 0 13 (dk_at dksX14_stride_0 9 rfl rfl)
theorem dX14_stride_12 : decode cX14_stride 12 = .ok (.ireturn, 1) := dk_172 (dk_at dksX14_stride_0 12 rfl rfl)
abbrev cX14_init : ByteArray := prog_4_method_1_code
def yX14_init : MethodName := ⟨RX14, "<init>", "(II)V"⟩
def dkwX14_init_0 : List UInt8 := [42, 27, 28, 183, 0, 3, 177]
abbrev dktX14_init_0 : List UInt8 := dkwX14_init_0 ++ []
theorem dksX14_init_0 : cX14_init.data.toList.drop 0 = dktX14_init_0 := by decide +kernel
theorem dX14_init_0 : decode cX14_init 0 = .ok (.aload_n 0, 1) := dk_42 (dk_at dksX14_init_0 0 rfl rfl)
theorem dX14_init_1 : decode cX14_init 1 = .ok (.iload_n 1, 1) := dk_27 (dk_at dksX14_init_0 1 rfl rfl)
theorem dX14_init_2 : decode cX14_init 2 = .ok (.iload_n 2, 1) := dk_28 (dk_at dksX14_init_0 2 rfl rfl)
theorem dX14_init_3 : decode cX14_init 3 = .ok (.invokespecial 3, 3) := dk_183 0 3 (dk_at dksX14_init_0 3 rfl rfl)
theorem dX14_init_6 : decode cX14_init 6 = .ok (.return_, 1) := dk_177 (dk_at dksX14_init_0 6 rfl rfl)
abbrev cX14_kind : ByteArray := prog_4_method_2_code
def yX14_kind : MethodName := ⟨RX14, "kind", "()I"⟩
theorem dX14_kind_0 : decode cX14_kind 0 = .ok (.iconst 1, 1) := by decide +kernel
theorem dX14_kind_1 : decode cX14_kind 1 = .ok (.ireturn, 1) := by decide +kernel
abbrev cX14_hopping : ByteArray := prog_4_method_5_code
def yX14_hopping : MethodName := ⟨RX14, "hopping", "(ILInASackToTheRope$Trace;)I"⟩
def dkwX14_hopping_0 : List UInt8 := [44, 16, 20, 182, 0, 22, 42, 27, 44, 183, 0, 28, 42, 180, 0, 32, 96, 172]
abbrev dktX14_hopping_0 : List UInt8 := dkwX14_hopping_0 ++ []
theorem dksX14_hopping_0 : cX14_hopping.data.toList.drop 0 = dktX14_hopping_0 := by decide +kernel
theorem dX14_hopping_0 : decode cX14_hopping 0 = .ok (.aload_n 2, 1) := dk_44 (dk_at dksX14_hopping_0 0 rfl rfl)
theorem dX14_hopping_1 : decode cX14_hopping 1 = .ok (.bipush 20, 2) := dk_16 20 (dk_at dksX14_hopping_0 1 rfl rfl)
theorem dX14_hopping_3 : decode cX14_hopping 3 = .ok (.invokevirtual 22, 3) := dk_182 0 22 (dk_at dksX14_hopping_0 3 rfl rfl)
theorem dX14_hopping_6 : decode cX14_hopping 6 = .ok (.aload_n 0, 1) := dk_42 (dk_at dksX14_hopping_0 6 rfl rfl)
theorem dX14_hopping_7 : decode cX14_hopping 7 = .ok (.iload_n 1, 1) := dk_27 (dk_at dksX14_hopping_0 7 rfl rfl)
theorem dX14_hopping_8 : decode cX14_hopping 8 = .ok (.aload_n 2, 1) := dk_44 (dk_at dksX14_hopping_0 8 rfl rfl)
theorem dX14_hopping_9 : decode cX14_hopping 9 = .ok (.invokespecial 28, 3) := dk_183 0 28 (dk_at dksX14_hopping_0 9 rfl rfl)
theorem dX14_hopping_12 : decode cX14_hopping 12 = .ok (.aload_n 0, 1) := dk_42 (dk_at dksX14_hopping_0 12 rfl rfl)
theorem dX14_hopping_13 : decode cX14_hopping 13 = .ok (.getfield 32, 3) := dk_180 0 32 (dk_at dksX14_hopping_0 13 rfl rfl)
theorem dX14_hopping_16 : decode cX14_hopping 16 = .ok (.iadd, 1) := dk_96 (dk_at dksX14_hopping_0 16 rfl rfl)
theorem dX14_hopping_17 : decode cX14_hopping 17 = .ok (.ireturn, 1) := dk_172 (dk_at dksX14_hopping_0 17 rfl rfl)
theorem q118 : (Jvm.Cond.initialized "InASackToTheRope$Even") ∈ lw_all := lw_g (lw_at lw_m1 25 rfl) rfl
theorem q675 : (Jvm.Cond.instanceMethod ({ cls := "InASackToTheRope$Even", name := "puff", desc := "()I" } : Jvm.MethodName)) ∈ lw_all := lw_g (lw_at lw_m3 102 rfl) rfl
theorem q676 : (Jvm.Cond.selects "InASackToTheRope$Even" ({ cls := "InASackToTheRope$Even", name := "puff", desc := "()I" } : Jvm.MethodName) ({ cls := "InASackToTheRope$Even", name := "puff", desc := "()I" } : Jvm.MethodName)) ∈ lw_all := lw_g (lw_at lw_m3 103 rfl) rfl
theorem q677 : (Jvm.Cond.sameMethod "InASackToTheRope$Even" "InASackToTheRope$Even" "puff" "()I") ∈ lw_all := lw_g (lw_at lw_m3 104 rfl) rfl
theorem q683 : (Jvm.Cond.code ({ cls := "InASackToTheRope$Even", name := "puff", desc := "()I" } : Jvm.MethodName) prog_4_method_4_code (1 : Nat) (Option.some Jvm.ClassFile.FieldType.int)) ∈ lw_all := lw_g (lw_at lw_m3 110 rfl) rfl
theorem q684 : (Jvm.Cond.methodLink "InASackToTheRope$Even" (18 : Nat) ({ cls := "InASackToTheRope$Hopper", name := "puff", desc := "()I" } : Jvm.MethodName)) ∈ lw_all := lw_g (lw_at lw_m3 111 rfl) rfl
theorem q685 : (Jvm.Cond.superclass "InASackToTheRope$Even" "InASackToTheRope$Hopper") ∈ lw_all := lw_g (lw_at lw_m3 112 rfl) rfl
theorem q711 : (Jvm.Cond.selects "InASackToTheRope$Even" ({ cls := "InASackToTheRope$Hopper", name := "stride", desc := "(II)I" } : Jvm.MethodName) ({ cls := "InASackToTheRope$Even", name := "stride", desc := "(II)I" } : Jvm.MethodName)) ∈ lw_all := lw_g (lw_at lw_m3 138 rfl) rfl
theorem q712 : (Jvm.Cond.instanceMethod ({ cls := "InASackToTheRope$Even", name := "stride", desc := "(II)I" } : Jvm.MethodName)) ∈ lw_all := lw_g (lw_at lw_m3 139 rfl) rfl
theorem q713 : (Jvm.Cond.code ({ cls := "InASackToTheRope$Even", name := "stride", desc := "(II)I" } : Jvm.MethodName) prog_4_method_3_code (3 : Nat) (Option.some Jvm.ClassFile.FieldType.int)) ∈ lw_all := lw_g (lw_at lw_m3 140 rfl) rfl
theorem q714 : (Jvm.Cond.methodLink "InASackToTheRope$Even" (9 : Nat) ({ cls := "InASackToTheRope$Hopper", name := "stride", desc := "(II)I" } : Jvm.MethodName)) ∈ lw_all := lw_g (lw_at lw_m3 141 rfl) rfl
theorem q716 : (Jvm.Cond.methodLink "InASackToTheRope$Even" (13 : Nat) ({ cls := "java/lang/Math", name := "max", desc := "(II)I" } : Jvm.MethodName)) ∈ lw_all := lw_g (lw_at lw_m3 143 rfl) rfl
theorem q758 : (Jvm.Cond.selects "InASackToTheRope$Even" ({ cls := "InASackToTheRope$Hopper", name := "risk", desc := "(III)I" } : Jvm.MethodName) ({ cls := "InASackToTheRope$Hopper", name := "risk", desc := "(III)I" } : Jvm.MethodName)) ∈ lw_all := lw_g (lw_at lw_m3 185 rfl) rfl
theorem q784 : (Jvm.Cond.instantiable "InASackToTheRope$Even" (2 : Nat)) ∈ lw_all := lw_g (lw_at lw_m3 211 rfl) rfl
theorem q786 : (Jvm.Cond.instanceMethod ({ cls := "InASackToTheRope$Even", name := "<init>", desc := "(II)V" } : Jvm.MethodName)) ∈ lw_all := lw_g (lw_at lw_m3 213 rfl) rfl
theorem q787 : (Jvm.Cond.code ({ cls := "InASackToTheRope$Even", name := "<init>", desc := "(II)V" } : Jvm.MethodName) prog_4_method_1_code (3 : Nat) (Option.none : Option Jvm.ClassFile.FieldType)) ∈ lw_all := lw_g (lw_at lw_m3 214 rfl) rfl
theorem q788 : (Jvm.Cond.methodLink "InASackToTheRope$Even" (3 : Nat) ({ cls := "InASackToTheRope$Hopper", name := "<init>", desc := "(II)V" } : Jvm.MethodName)) ∈ lw_all := lw_g (lw_at lw_m3 215 rfl) rfl
theorem q807 : (Jvm.Cond.fieldLink "InASackToTheRope$Even" (32 : Nat) "InASackToTheRope$Even" "by" "I") ∈ lw_all := lw_g (lw_at lw_m3 234 rfl) rfl
theorem q808 : (Jvm.Cond.sameField "InASackToTheRope$Even" "InASackToTheRope$Hopper" "by" "I") ∈ lw_all := lw_g (lw_at lw_m3 235 rfl) rfl
theorem q812 : (Jvm.Cond.laysFinal "InASackToTheRope$Even" "InASackToTheRope$Hopper" "index" "I") ∈ lw_all := lw_g (lw_at lw_m3 239 rfl) rfl
theorem q814 : (Jvm.Cond.laysFinal "InASackToTheRope$Even" "InASackToTheRope$Hopper" "by" "I") ∈ lw_all := lw_g (lw_at lw_m4 1 rfl) rfl
theorem q885 : (Jvm.Cond.selects "InASackToTheRope$Even" ({ cls := "InASackToTheRope$Hopper", name := "kind", desc := "()I" } : Jvm.MethodName) ({ cls := "InASackToTheRope$Even", name := "kind", desc := "()I" } : Jvm.MethodName)) ∈ lw_all := lw_g (lw_at lw_m4 72 rfl) rfl
theorem q886 : (Jvm.Cond.instanceMethod ({ cls := "InASackToTheRope$Even", name := "kind", desc := "()I" } : Jvm.MethodName)) ∈ lw_all := lw_g (lw_at lw_m4 73 rfl) rfl
theorem q887 : (Jvm.Cond.code ({ cls := "InASackToTheRope$Even", name := "kind", desc := "()I" } : Jvm.MethodName) prog_4_method_2_code (1 : Nat) (Option.some Jvm.ClassFile.FieldType.int)) ∈ lw_all := lw_g (lw_at lw_m4 74 rfl) rfl
theorem q1379 : (Jvm.Cond.instanceMethod ({ cls := "InASackToTheRope$Even", name := "hopping", desc := "(ILInASackToTheRope$Trace;)I" } : Jvm.MethodName)) ∈ lw_all := lw_g (lw_at lw_m6 86 rfl) rfl
theorem q1380 : (Jvm.Cond.code ({ cls := "InASackToTheRope$Even", name := "hopping", desc := "(ILInASackToTheRope$Trace;)I" } : Jvm.MethodName) prog_4_method_5_code (3 : Nat) (Option.some Jvm.ClassFile.FieldType.int)) ∈ lw_all := lw_g (lw_at lw_m6 87 rfl) rfl
theorem q1381 : (Jvm.Cond.methodLink "InASackToTheRope$Even" (22 : Nat) ({ cls := "InASackToTheRope$Trace", name := "runs", desc := "(I)V" } : Jvm.MethodName)) ∈ lw_all := lw_g (lw_at lw_m6 88 rfl) rfl
theorem q1385 : (Jvm.Cond.methodLink "InASackToTheRope$Even" (28 : Nat) ({ cls := "InASackToTheRope$Hopper", name := "hopping", desc := "(ILInASackToTheRope$Trace;)I" } : Jvm.MethodName)) ∈ lw_all := lw_g (lw_at lw_m6 92 rfl) rfl
theorem q1388 : (Jvm.Cond.selects "InASackToTheRope$Even" ({ cls := "InASackToTheRope$Hopper", name := "hopping", desc := "(ILInASackToTheRope$Trace;)I" } : Jvm.MethodName) ({ cls := "InASackToTheRope$Even", name := "hopping", desc := "(ILInASackToTheRope$Trace;)I" } : Jvm.MethodName)) ∈ lw_all := lw_g (lw_at lw_m6 95 rfl) rfl
theorem q1410 : (Jvm.Cond.sameMethod "InASackToTheRope$Even" "InASackToTheRope$Hopper" "falling" "(ILInASackToTheRope$Trace;)I") ∈ lw_all := lw_g (lw_at lw_m6 117 rfl) rfl
theorem q1414 : (Jvm.Cond.selects "InASackToTheRope$Even" ({ cls := "InASackToTheRope$Hopper", name := "falling", desc := "(ILInASackToTheRope$Trace;)I" } : Jvm.MethodName) ({ cls := "InASackToTheRope$Hopper", name := "falling", desc := "(ILInASackToTheRope$Trace;)I" } : Jvm.MethodName)) ∈ lw_all := lw_g (lw_at lw_m6 121 rfl) rfl
theorem q1432 : (Jvm.Cond.selects "InASackToTheRope$Even" ({ cls := "InASackToTheRope$Hopper", name := "rising", desc := "(ILInASackToTheRope$Trace;)I" } : Jvm.MethodName) ({ cls := "InASackToTheRope$Hopper", name := "rising", desc := "(ILInASackToTheRope$Trace;)I" } : Jvm.MethodName)) ∈ lw_all := lw_g (lw_at lw_m6 139 rfl) rfl
theorem q2036 : (Jvm.Cond.selects "InASackToTheRope$Even" ({ cls := "InASackToTheRope$Hopper", name := "puff", desc := "()I" } : Jvm.MethodName) ({ cls := "InASackToTheRope$Even", name := "puff", desc := "()I" } : Jvm.MethodName)) ∈ lw_all := lw_g (lw_at lw_m9 23 rfl) rfl
theorem q2051 : (Jvm.Cond.castable "InASackToTheRope$Even" "InASackToTheRope$Hopper") ∈ lw_tbl := lw_at lw_m9 38 rfl
theorem in_X14 : ∀ w ∈ wsX140, w ∈ lw_all := lw_in wsX140 [812, 814] (by decide +kernel) (by decide +kernel)
/-! InASackToTheRope$Far -/
set_option maxRecDepth 100000
def RX15 : String := "InASackToTheRope$Far"
def TX15 : u_T := fun k => match k with
  | 0 => ("InASackToTheRope$Hopper", "index", "I", true)
  | _ => ("InASackToTheRope$Hopper", "by", "I", true)
def tyX15 : Nat → FieldType := fun k => match k with
  | 0 => .int
  | _ => .int
abbrev wsX150 : List Cond := u_ws RX15 TX15 2
theorem nmX15 : ∀ a, a < 2 → ∀ b, b < 2 → a ≠ b → (TX15 a).2.1 ≠ (TX15 b).2.1 := by decide +kernel
theorem tyX15_ok : ∀ k, k < 2 → parseFieldDescriptor (TX15 k).2.2.1 = some (tyX15 k) := by decide +kernel
abbrev cX15_stride : ByteArray := prog_5_method_3_code
def yX15_stride : MethodName := ⟨RX15, "stride", "(II)I"⟩
def dkwX15_stride_0 : List UInt8 := [42, 27, 28, 183, 0, 9, 5, 96, 172]
abbrev dktX15_stride_0 : List UInt8 := dkwX15_stride_0 ++ []
theorem dksX15_stride_0 : cX15_stride.data.toList.drop 0 = dktX15_stride_0 := by decide +kernel
theorem dX15_stride_0 : decode cX15_stride 0 = .ok (.aload_n 0, 1) := dk_42 (dk_at dksX15_stride_0 0 rfl rfl)
theorem dX15_stride_1 : decode cX15_stride 1 = .ok (.iload_n 1, 1) := dk_27 (dk_at dksX15_stride_0 1 rfl rfl)
theorem dX15_stride_2 : decode cX15_stride 2 = .ok (.iload_n 2, 1) := dk_28 (dk_at dksX15_stride_0 2 rfl rfl)
theorem dX15_stride_3 : decode cX15_stride 3 = .ok (.invokespecial 9, 3) := dk_183 0 9 (dk_at dksX15_stride_0 3 rfl rfl)
theorem dX15_stride_6 : decode cX15_stride 6 = .ok (.iconst 2, 1) := dk_5 (dk_at dksX15_stride_0 6 rfl rfl)
theorem dX15_stride_7 : decode cX15_stride 7 = .ok (.iadd, 1) := dk_96 (dk_at dksX15_stride_0 7 rfl rfl)
theorem dX15_stride_8 : decode cX15_stride 8 = .ok (.ireturn, 1) := dk_172 (dk_at dksX15_stride_0 8 rfl rfl)
abbrev cX15_init : ByteArray := prog_5_method_1_code
def yX15_init : MethodName := ⟨RX15, "<init>", "(II)V"⟩
def dkwX15_init_0 : List UInt8 := [42, 27, 28, 183, 0, 3, 177]
abbrev dktX15_init_0 : List UInt8 := dkwX15_init_0 ++ []
theorem dksX15_init_0 : cX15_init.data.toList.drop 0 = dktX15_init_0 := by decide +kernel
theorem dX15_init_0 : decode cX15_init 0 = .ok (.aload_n 0, 1) := dk_42 (dk_at dksX15_init_0 0 rfl rfl)
theorem dX15_init_1 : decode cX15_init 1 = .ok (.iload_n 1, 1) := dk_27 (dk_at dksX15_init_0 1 rfl rfl)
theorem dX15_init_2 : decode cX15_init 2 = .ok (.iload_n 2, 1) := dk_28 (dk_at dksX15_init_0 2 rfl rfl)
theorem dX15_init_3 : decode cX15_init 3 = .ok (.invokespecial 3, 3) := dk_183 0 3 (dk_at dksX15_init_0 3 rfl rfl)
theorem dX15_init_6 : decode cX15_init 6 = .ok (.return_, 1) := dk_177 (dk_at dksX15_init_0 6 rfl rfl)
abbrev cX15_kind : ByteArray := prog_5_method_2_code
def yX15_kind : MethodName := ⟨RX15, "kind", "()I"⟩
theorem dX15_kind_0 : decode cX15_kind 0 = .ok (.iconst 2, 1) := by decide +kernel
theorem dX15_kind_1 : decode cX15_kind 1 = .ok (.ireturn, 1) := by decide +kernel
abbrev cX15_puff : ByteArray := prog_5_method_4_code
def yX15_puff : MethodName := ⟨RX15, "puff", "()I"⟩
def dkwX15_puff_0 : List UInt8 := [42, 183, 0, 13, 5, 96, 172]
abbrev dktX15_puff_0 : List UInt8 := dkwX15_puff_0 ++ []
theorem dksX15_puff_0 : cX15_puff.data.toList.drop 0 = dktX15_puff_0 := by decide +kernel
theorem dX15_puff_0 : decode cX15_puff 0 = .ok (.aload_n 0, 1) := dk_42 (dk_at dksX15_puff_0 0 rfl rfl)
theorem dX15_puff_1 : decode cX15_puff 1 = .ok (.invokespecial 13, 3) := dk_183 0 13 (dk_at dksX15_puff_0 1 rfl rfl)
theorem dX15_puff_4 : decode cX15_puff 4 = .ok (.iconst 2, 1) := dk_5 (dk_at dksX15_puff_0 4 rfl rfl)
theorem dX15_puff_5 : decode cX15_puff 5 = .ok (.iadd, 1) := dk_96 (dk_at dksX15_puff_0 5 rfl rfl)
theorem dX15_puff_6 : decode cX15_puff 6 = .ok (.ireturn, 1) := dk_172 (dk_at dksX15_puff_0 6 rfl rfl)
abbrev cX15_falling : ByteArray := prog_5_method_5_code
def yX15_falling : MethodName := ⟨RX15, "falling", "(ILInASackToTheRope$Trace;)I"⟩
def dkwX15_falling_0 : List UInt8 := [44, 16, 30, 182, 0, 17, 42, 27, 44, 183, 0, 23, 6, 104, 172]
abbrev dktX15_falling_0 : List UInt8 := dkwX15_falling_0 ++ []
theorem dksX15_falling_0 : cX15_falling.data.toList.drop 0 = dktX15_falling_0 := by decide +kernel
theorem dX15_falling_0 : decode cX15_falling 0 = .ok (.aload_n 2, 1) := dk_44 (dk_at dksX15_falling_0 0 rfl rfl)
theorem dX15_falling_1 : decode cX15_falling 1 = .ok (.bipush 30, 2) := dk_16 30 (dk_at dksX15_falling_0 1 rfl rfl)
theorem dX15_falling_3 : decode cX15_falling 3 = .ok (.invokevirtual 17, 3) := dk_182 0 17 (dk_at dksX15_falling_0 3 rfl rfl)
theorem dX15_falling_6 : decode cX15_falling 6 = .ok (.aload_n 0, 1) := dk_42 (dk_at dksX15_falling_0 6 rfl rfl)
theorem dX15_falling_7 : decode cX15_falling 7 = .ok (.iload_n 1, 1) := dk_27 (dk_at dksX15_falling_0 7 rfl rfl)
theorem dX15_falling_8 : decode cX15_falling 8 = .ok (.aload_n 2, 1) := dk_44 (dk_at dksX15_falling_0 8 rfl rfl)
theorem dX15_falling_9 : decode cX15_falling 9 = .ok (.invokespecial 23, 3) := dk_183 0 23 (dk_at dksX15_falling_0 9 rfl rfl)
theorem dX15_falling_12 : decode cX15_falling 12 = .ok (.iconst 3, 1) := dk_6 (dk_at dksX15_falling_0 12 rfl rfl)
theorem dX15_falling_13 : decode cX15_falling 13 = .ok (.imul, 1) := dk_104 (dk_at dksX15_falling_0 13 rfl rfl)
theorem dX15_falling_14 : decode cX15_falling 14 = .ok (.ireturn, 1) := dk_172 (dk_at dksX15_falling_0 14 rfl rfl)
theorem q119 : (Jvm.Cond.initialized "InASackToTheRope$Far") ∈ lw_all := lw_g (lw_at lw_m1 26 rfl) rfl
theorem q719 : (Jvm.Cond.selects "InASackToTheRope$Far" ({ cls := "InASackToTheRope$Hopper", name := "stride", desc := "(II)I" } : Jvm.MethodName) ({ cls := "InASackToTheRope$Far", name := "stride", desc := "(II)I" } : Jvm.MethodName)) ∈ lw_all := lw_g (lw_at lw_m3 146 rfl) rfl
theorem q720 : (Jvm.Cond.instanceMethod ({ cls := "InASackToTheRope$Far", name := "stride", desc := "(II)I" } : Jvm.MethodName)) ∈ lw_all := lw_g (lw_at lw_m3 147 rfl) rfl
theorem q721 : (Jvm.Cond.code ({ cls := "InASackToTheRope$Far", name := "stride", desc := "(II)I" } : Jvm.MethodName) prog_5_method_3_code (3 : Nat) (Option.some Jvm.ClassFile.FieldType.int)) ∈ lw_all := lw_g (lw_at lw_m3 148 rfl) rfl
theorem q722 : (Jvm.Cond.methodLink "InASackToTheRope$Far" (9 : Nat) ({ cls := "InASackToTheRope$Hopper", name := "stride", desc := "(II)I" } : Jvm.MethodName)) ∈ lw_all := lw_g (lw_at lw_m3 149 rfl) rfl
theorem q723 : (Jvm.Cond.superclass "InASackToTheRope$Far" "InASackToTheRope$Hopper") ∈ lw_all := lw_g (lw_at lw_m3 150 rfl) rfl
theorem q759 : (Jvm.Cond.selects "InASackToTheRope$Far" ({ cls := "InASackToTheRope$Hopper", name := "risk", desc := "(III)I" } : Jvm.MethodName) ({ cls := "InASackToTheRope$Hopper", name := "risk", desc := "(III)I" } : Jvm.MethodName)) ∈ lw_all := lw_g (lw_at lw_m3 186 rfl) rfl
theorem q794 : (Jvm.Cond.sameField "InASackToTheRope$Far" "InASackToTheRope$Hopper" "index" "I") ∈ lw_all := lw_g (lw_at lw_m3 221 rfl) rfl
theorem q817 : (Jvm.Cond.instantiable "InASackToTheRope$Far" (2 : Nat)) ∈ lw_all := lw_g (lw_at lw_m4 4 rfl) rfl
theorem q819 : (Jvm.Cond.instanceMethod ({ cls := "InASackToTheRope$Far", name := "<init>", desc := "(II)V" } : Jvm.MethodName)) ∈ lw_all := lw_g (lw_at lw_m4 6 rfl) rfl
theorem q820 : (Jvm.Cond.code ({ cls := "InASackToTheRope$Far", name := "<init>", desc := "(II)V" } : Jvm.MethodName) prog_5_method_1_code (3 : Nat) (Option.none : Option Jvm.ClassFile.FieldType)) ∈ lw_all := lw_g (lw_at lw_m4 7 rfl) rfl
theorem q821 : (Jvm.Cond.methodLink "InASackToTheRope$Far" (3 : Nat) ({ cls := "InASackToTheRope$Hopper", name := "<init>", desc := "(II)V" } : Jvm.MethodName)) ∈ lw_all := lw_g (lw_at lw_m4 8 rfl) rfl
theorem q822 : (Jvm.Cond.laysFinal "InASackToTheRope$Far" "InASackToTheRope$Hopper" "index" "I") ∈ lw_all := lw_g (lw_at lw_m4 9 rfl) rfl
theorem q823 : (Jvm.Cond.laysFinal "InASackToTheRope$Far" "InASackToTheRope$Hopper" "by" "I") ∈ lw_all := lw_g (lw_at lw_m4 10 rfl) rfl
theorem q888 : (Jvm.Cond.selects "InASackToTheRope$Far" ({ cls := "InASackToTheRope$Hopper", name := "kind", desc := "()I" } : Jvm.MethodName) ({ cls := "InASackToTheRope$Far", name := "kind", desc := "()I" } : Jvm.MethodName)) ∈ lw_all := lw_g (lw_at lw_m4 75 rfl) rfl
theorem q889 : (Jvm.Cond.instanceMethod ({ cls := "InASackToTheRope$Far", name := "kind", desc := "()I" } : Jvm.MethodName)) ∈ lw_all := lw_g (lw_at lw_m4 76 rfl) rfl
theorem q890 : (Jvm.Cond.code ({ cls := "InASackToTheRope$Far", name := "kind", desc := "()I" } : Jvm.MethodName) prog_5_method_2_code (1 : Nat) (Option.some Jvm.ClassFile.FieldType.int)) ∈ lw_all := lw_g (lw_at lw_m4 77 rfl) rfl
theorem q903 : (Jvm.Cond.instanceMethod ({ cls := "InASackToTheRope$Far", name := "puff", desc := "()I" } : Jvm.MethodName)) ∈ lw_all := lw_g (lw_at lw_m4 90 rfl) rfl
theorem q904 : (Jvm.Cond.code ({ cls := "InASackToTheRope$Far", name := "puff", desc := "()I" } : Jvm.MethodName) prog_5_method_4_code (1 : Nat) (Option.some Jvm.ClassFile.FieldType.int)) ∈ lw_all := lw_g (lw_at lw_m4 91 rfl) rfl
theorem q905 : (Jvm.Cond.methodLink "InASackToTheRope$Far" (13 : Nat) ({ cls := "InASackToTheRope$Hopper", name := "puff", desc := "()I" } : Jvm.MethodName)) ∈ lw_all := lw_g (lw_at lw_m4 92 rfl) rfl
theorem q1389 : (Jvm.Cond.selects "InASackToTheRope$Far" ({ cls := "InASackToTheRope$Hopper", name := "hopping", desc := "(ILInASackToTheRope$Trace;)I" } : Jvm.MethodName) ({ cls := "InASackToTheRope$Hopper", name := "hopping", desc := "(ILInASackToTheRope$Trace;)I" } : Jvm.MethodName)) ∈ lw_all := lw_g (lw_at lw_m6 96 rfl) rfl
theorem q1415 : (Jvm.Cond.selects "InASackToTheRope$Far" ({ cls := "InASackToTheRope$Hopper", name := "falling", desc := "(ILInASackToTheRope$Trace;)I" } : Jvm.MethodName) ({ cls := "InASackToTheRope$Far", name := "falling", desc := "(ILInASackToTheRope$Trace;)I" } : Jvm.MethodName)) ∈ lw_all := lw_g (lw_at lw_m6 122 rfl) rfl
theorem q1416 : (Jvm.Cond.instanceMethod ({ cls := "InASackToTheRope$Far", name := "falling", desc := "(ILInASackToTheRope$Trace;)I" } : Jvm.MethodName)) ∈ lw_all := lw_g (lw_at lw_m6 123 rfl) rfl
theorem q1417 : (Jvm.Cond.code ({ cls := "InASackToTheRope$Far", name := "falling", desc := "(ILInASackToTheRope$Trace;)I" } : Jvm.MethodName) prog_5_method_5_code (3 : Nat) (Option.some Jvm.ClassFile.FieldType.int)) ∈ lw_all := lw_g (lw_at lw_m6 124 rfl) rfl
theorem q1418 : (Jvm.Cond.methodLink "InASackToTheRope$Far" (17 : Nat) ({ cls := "InASackToTheRope$Trace", name := "runs", desc := "(I)V" } : Jvm.MethodName)) ∈ lw_all := lw_g (lw_at lw_m6 125 rfl) rfl
theorem q1419 : (Jvm.Cond.methodLink "InASackToTheRope$Far" (23 : Nat) ({ cls := "InASackToTheRope$Hopper", name := "falling", desc := "(ILInASackToTheRope$Trace;)I" } : Jvm.MethodName)) ∈ lw_all := lw_g (lw_at lw_m6 126 rfl) rfl
theorem q1433 : (Jvm.Cond.selects "InASackToTheRope$Far" ({ cls := "InASackToTheRope$Hopper", name := "rising", desc := "(ILInASackToTheRope$Trace;)I" } : Jvm.MethodName) ({ cls := "InASackToTheRope$Hopper", name := "rising", desc := "(ILInASackToTheRope$Trace;)I" } : Jvm.MethodName)) ∈ lw_all := lw_g (lw_at lw_m6 140 rfl) rfl
theorem q1439 : (Jvm.Cond.sameMethod "InASackToTheRope$Far" "InASackToTheRope$Hopper" "rising" "(ILInASackToTheRope$Trace;)I") ∈ lw_all := lw_g (lw_at lw_m6 146 rfl) rfl
theorem q2037 : (Jvm.Cond.selects "InASackToTheRope$Far" ({ cls := "InASackToTheRope$Hopper", name := "puff", desc := "()I" } : Jvm.MethodName) ({ cls := "InASackToTheRope$Far", name := "puff", desc := "()I" } : Jvm.MethodName)) ∈ lw_all := lw_g (lw_at lw_m9 24 rfl) rfl
theorem q2039 : (Jvm.Cond.sameMethod "InASackToTheRope$Far" "InASackToTheRope$Far" "puff" "()I") ∈ lw_all := lw_g (lw_at lw_m9 26 rfl) rfl
theorem q2052 : (Jvm.Cond.castable "InASackToTheRope$Far" "InASackToTheRope$Hopper") ∈ lw_tbl := lw_at lw_m9 39 rfl
theorem in_X15 : ∀ w ∈ wsX150, w ∈ lw_all := lw_in wsX150 [822, 823] (by decide +kernel) (by decide +kernel)
/-! InASackToTheRope$Calm -/
set_option maxRecDepth 100000
def RX16 : String := "InASackToTheRope$Calm"
def TX16 : u_T := fun k => match k with
  | 0 => ("InASackToTheRope$Hopper", "index", "I", true)
  | _ => ("InASackToTheRope$Hopper", "by", "I", true)
def tyX16 : Nat → FieldType := fun k => match k with
  | 0 => .int
  | _ => .int
abbrev wsX160 : List Cond := u_ws RX16 TX16 2
theorem nmX16 : ∀ a, a < 2 → ∀ b, b < 2 → a ≠ b → (TX16 a).2.1 ≠ (TX16 b).2.1 := by decide +kernel
theorem tyX16_ok : ∀ k, k < 2 → parseFieldDescriptor (TX16 k).2.2.1 = some (tyX16 k) := by decide +kernel
abbrev cX16_puff : ByteArray := prog_3_method_4_code
def yX16_puff : MethodName := ⟨RX16, "puff", "()I"⟩
def dkwX16_puff_0 : List UInt8 := [42, 183, 0, 9, 4, 100, 172]
abbrev dktX16_puff_0 : List UInt8 := dkwX16_puff_0 ++ []
theorem dksX16_puff_0 : cX16_puff.data.toList.drop 0 = dktX16_puff_0 := by decide +kernel
theorem dX16_puff_0 : decode cX16_puff 0 = .ok (.aload_n 0, 1) := dk_42 (dk_at dksX16_puff_0 0 rfl rfl)
theorem dX16_puff_1 : decode cX16_puff 1 = .ok (.invokespecial 9, 3) := dk_183 0 9 (dk_at dksX16_puff_0 1 rfl rfl)
theorem dX16_puff_4 : decode cX16_puff 4 = .ok (.iconst 1, 1) := dk_4 (dk_at dksX16_puff_0 4 rfl rfl)
theorem dX16_puff_5 : decode cX16_puff 5 = .ok (.isub, 1) := dk_100 (dk_at dksX16_puff_0 5 rfl rfl)
theorem dX16_puff_6 : decode cX16_puff 6 = .ok (.ireturn, 1) := dk_172 (dk_at dksX16_puff_0 6 rfl rfl)
abbrev cX16_stride : ByteArray := prog_3_method_3_code
def yX16_stride : MethodName := ⟨RX16, "stride", "(II)I"⟩
def dkwX16_stride_0 : List UInt8 := [27, 4, 96, 5, 108, 172]
abbrev dktX16_stride_0 : List UInt8 := dkwX16_stride_0 ++ []
theorem dksX16_stride_0 : cX16_stride.data.toList.drop 0 = dktX16_stride_0 := by decide +kernel
theorem dX16_stride_0 : decode cX16_stride 0 = .ok (.iload_n 1, 1) := dk_27 (dk_at dksX16_stride_0 0 rfl rfl)
theorem dX16_stride_1 : decode cX16_stride 1 = .ok (.iconst 1, 1) := dk_4 (dk_at dksX16_stride_0 1 rfl rfl)
theorem dX16_stride_2 : decode cX16_stride 2 = .ok (.iadd, 1) := dk_96 (dk_at dksX16_stride_0 2 rfl rfl)
theorem dX16_stride_3 : decode cX16_stride 3 = .ok (.iconst 2, 1) := dk_5 (dk_at dksX16_stride_0 3 rfl rfl)
theorem dX16_stride_4 : decode cX16_stride 4 = .ok (.idiv, 1) := dk_108 (dk_at dksX16_stride_0 4 rfl rfl)
theorem dX16_stride_5 : decode cX16_stride 5 = .ok (.ireturn, 1) := dk_172 (dk_at dksX16_stride_0 5 rfl rfl)
abbrev cX16_init : ByteArray := prog_3_method_1_code
def yX16_init : MethodName := ⟨RX16, "<init>", "(II)V"⟩
def dkwX16_init_0 : List UInt8 := [42, 27, 28, 183, 0, 3, 177]
abbrev dktX16_init_0 : List UInt8 := dkwX16_init_0 ++ []
theorem dksX16_init_0 : cX16_init.data.toList.drop 0 = dktX16_init_0 := by decide +kernel
theorem dX16_init_0 : decode cX16_init 0 = .ok (.aload_n 0, 1) := dk_42 (dk_at dksX16_init_0 0 rfl rfl)
theorem dX16_init_1 : decode cX16_init 1 = .ok (.iload_n 1, 1) := dk_27 (dk_at dksX16_init_0 1 rfl rfl)
theorem dX16_init_2 : decode cX16_init 2 = .ok (.iload_n 2, 1) := dk_28 (dk_at dksX16_init_0 2 rfl rfl)
theorem dX16_init_3 : decode cX16_init 3 = .ok (.invokespecial 3, 3) := dk_183 0 3 (dk_at dksX16_init_0 3 rfl rfl)
theorem dX16_init_6 : decode cX16_init 6 = .ok (.return_, 1) := dk_177 (dk_at dksX16_init_0 6 rfl rfl)
abbrev cX16_kind : ByteArray := prog_3_method_2_code
def yX16_kind : MethodName := ⟨RX16, "kind", "()I"⟩
theorem dX16_kind_0 : decode cX16_kind 0 = .ok (.iconst 3, 1) := by decide +kernel
theorem dX16_kind_1 : decode cX16_kind 1 = .ok (.ireturn, 1) := by decide +kernel
abbrev cX16_falling : ByteArray := prog_3_method_5_code
def yX16_falling : MethodName := ⟨RX16, "falling", "(ILInASackToTheRope$Trace;)I"⟩
def dkwX16_falling_0 : List UInt8 := [44, 16, 40, 182, 0, 13, 42, 27, 4, 96, 44, 183, 0, 19, 172]
abbrev dktX16_falling_0 : List UInt8 := dkwX16_falling_0 ++ []
theorem dksX16_falling_0 : cX16_falling.data.toList.drop 0 = dktX16_falling_0 := by decide +kernel
theorem dX16_falling_0 : decode cX16_falling 0 = .ok (.aload_n 2, 1) := dk_44 (dk_at dksX16_falling_0 0 rfl rfl)
theorem dX16_falling_1 : decode cX16_falling 1 = .ok (.bipush 40, 2) := dk_16 40 (dk_at dksX16_falling_0 1 rfl rfl)
theorem dX16_falling_3 : decode cX16_falling 3 = .ok (.invokevirtual 13, 3) := dk_182 0 13 (dk_at dksX16_falling_0 3 rfl rfl)
theorem dX16_falling_6 : decode cX16_falling 6 = .ok (.aload_n 0, 1) := dk_42 (dk_at dksX16_falling_0 6 rfl rfl)
theorem dX16_falling_7 : decode cX16_falling 7 = .ok (.iload_n 1, 1) := dk_27 (dk_at dksX16_falling_0 7 rfl rfl)
theorem dX16_falling_8 : decode cX16_falling 8 = .ok (.iconst 1, 1) := dk_4 (dk_at dksX16_falling_0 8 rfl rfl)
theorem dX16_falling_9 : decode cX16_falling 9 = .ok (.iadd, 1) := dk_96 (dk_at dksX16_falling_0 9 rfl rfl)
theorem dX16_falling_10 : decode cX16_falling 10 = .ok (.aload_n 2, 1) := dk_44 (dk_at dksX16_falling_0 10 rfl rfl)
theorem dX16_falling_11 : decode cX16_falling 11 = .ok (.invokespecial 19, 3) := dk_183 0 19 (dk_at dksX16_falling_0 11 rfl rfl)
theorem dX16_falling_14 : decode cX16_falling 14 = .ok (.ireturn, 1) := dk_172 (dk_at dksX16_falling_0 14 rfl rfl)
theorem q120 : (Jvm.Cond.initialized "InASackToTheRope$Calm") ∈ lw_all := lw_g (lw_at lw_m1 27 rfl) rfl
theorem q678 : (Jvm.Cond.selects "InASackToTheRope$Calm" ({ cls := "InASackToTheRope$Even", name := "puff", desc := "()I" } : Jvm.MethodName) ({ cls := "InASackToTheRope$Calm", name := "puff", desc := "()I" } : Jvm.MethodName)) ∈ lw_all := lw_g (lw_at lw_m3 105 rfl) rfl
theorem q679 : (Jvm.Cond.instanceMethod ({ cls := "InASackToTheRope$Calm", name := "puff", desc := "()I" } : Jvm.MethodName)) ∈ lw_all := lw_g (lw_at lw_m3 106 rfl) rfl
theorem q680 : (Jvm.Cond.code ({ cls := "InASackToTheRope$Calm", name := "puff", desc := "()I" } : Jvm.MethodName) prog_3_method_4_code (1 : Nat) (Option.some Jvm.ClassFile.FieldType.int)) ∈ lw_all := lw_g (lw_at lw_m3 107 rfl) rfl
theorem q681 : (Jvm.Cond.methodLink "InASackToTheRope$Calm" (9 : Nat) ({ cls := "InASackToTheRope$Even", name := "puff", desc := "()I" } : Jvm.MethodName)) ∈ lw_all := lw_g (lw_at lw_m3 108 rfl) rfl
theorem q682 : (Jvm.Cond.superclass "InASackToTheRope$Calm" "InASackToTheRope$Even") ∈ lw_all := lw_g (lw_at lw_m3 109 rfl) rfl
theorem q708 : (Jvm.Cond.selects "InASackToTheRope$Calm" ({ cls := "InASackToTheRope$Hopper", name := "stride", desc := "(II)I" } : Jvm.MethodName) ({ cls := "InASackToTheRope$Calm", name := "stride", desc := "(II)I" } : Jvm.MethodName)) ∈ lw_all := lw_g (lw_at lw_m3 135 rfl) rfl
theorem q709 : (Jvm.Cond.instanceMethod ({ cls := "InASackToTheRope$Calm", name := "stride", desc := "(II)I" } : Jvm.MethodName)) ∈ lw_all := lw_g (lw_at lw_m3 136 rfl) rfl
theorem q710 : (Jvm.Cond.code ({ cls := "InASackToTheRope$Calm", name := "stride", desc := "(II)I" } : Jvm.MethodName) prog_3_method_3_code (3 : Nat) (Option.some Jvm.ClassFile.FieldType.int)) ∈ lw_all := lw_g (lw_at lw_m3 137 rfl) rfl
theorem q757 : (Jvm.Cond.selects "InASackToTheRope$Calm" ({ cls := "InASackToTheRope$Hopper", name := "risk", desc := "(III)I" } : Jvm.MethodName) ({ cls := "InASackToTheRope$Hopper", name := "risk", desc := "(III)I" } : Jvm.MethodName)) ∈ lw_all := lw_g (lw_at lw_m3 184 rfl) rfl
theorem q825 : (Jvm.Cond.instantiable "InASackToTheRope$Calm" (2 : Nat)) ∈ lw_all := lw_g (lw_at lw_m4 12 rfl) rfl
theorem q827 : (Jvm.Cond.instanceMethod ({ cls := "InASackToTheRope$Calm", name := "<init>", desc := "(II)V" } : Jvm.MethodName)) ∈ lw_all := lw_g (lw_at lw_m4 14 rfl) rfl
theorem q828 : (Jvm.Cond.code ({ cls := "InASackToTheRope$Calm", name := "<init>", desc := "(II)V" } : Jvm.MethodName) prog_3_method_1_code (3 : Nat) (Option.none : Option Jvm.ClassFile.FieldType)) ∈ lw_all := lw_g (lw_at lw_m4 15 rfl) rfl
theorem q829 : (Jvm.Cond.methodLink "InASackToTheRope$Calm" (3 : Nat) ({ cls := "InASackToTheRope$Even", name := "<init>", desc := "(II)V" } : Jvm.MethodName)) ∈ lw_all := lw_g (lw_at lw_m4 16 rfl) rfl
theorem q830 : (Jvm.Cond.laysFinal "InASackToTheRope$Calm" "InASackToTheRope$Hopper" "index" "I") ∈ lw_all := lw_g (lw_at lw_m4 17 rfl) rfl
theorem q831 : (Jvm.Cond.laysFinal "InASackToTheRope$Calm" "InASackToTheRope$Hopper" "by" "I") ∈ lw_all := lw_g (lw_at lw_m4 18 rfl) rfl
theorem q882 : (Jvm.Cond.selects "InASackToTheRope$Calm" ({ cls := "InASackToTheRope$Hopper", name := "kind", desc := "()I" } : Jvm.MethodName) ({ cls := "InASackToTheRope$Calm", name := "kind", desc := "()I" } : Jvm.MethodName)) ∈ lw_all := lw_g (lw_at lw_m4 69 rfl) rfl
theorem q883 : (Jvm.Cond.instanceMethod ({ cls := "InASackToTheRope$Calm", name := "kind", desc := "()I" } : Jvm.MethodName)) ∈ lw_all := lw_g (lw_at lw_m4 70 rfl) rfl
theorem q884 : (Jvm.Cond.code ({ cls := "InASackToTheRope$Calm", name := "kind", desc := "()I" } : Jvm.MethodName) prog_3_method_2_code (1 : Nat) (Option.some Jvm.ClassFile.FieldType.int)) ∈ lw_all := lw_g (lw_at lw_m4 71 rfl) rfl
theorem q1378 : (Jvm.Cond.selects "InASackToTheRope$Calm" ({ cls := "InASackToTheRope$Hopper", name := "hopping", desc := "(ILInASackToTheRope$Trace;)I" } : Jvm.MethodName) ({ cls := "InASackToTheRope$Even", name := "hopping", desc := "(ILInASackToTheRope$Trace;)I" } : Jvm.MethodName)) ∈ lw_all := lw_g (lw_at lw_m6 85 rfl) rfl
theorem q1405 : (Jvm.Cond.selects "InASackToTheRope$Calm" ({ cls := "InASackToTheRope$Hopper", name := "falling", desc := "(ILInASackToTheRope$Trace;)I" } : Jvm.MethodName) ({ cls := "InASackToTheRope$Calm", name := "falling", desc := "(ILInASackToTheRope$Trace;)I" } : Jvm.MethodName)) ∈ lw_all := lw_g (lw_at lw_m6 112 rfl) rfl
theorem q1406 : (Jvm.Cond.instanceMethod ({ cls := "InASackToTheRope$Calm", name := "falling", desc := "(ILInASackToTheRope$Trace;)I" } : Jvm.MethodName)) ∈ lw_all := lw_g (lw_at lw_m6 113 rfl) rfl
theorem q1407 : (Jvm.Cond.code ({ cls := "InASackToTheRope$Calm", name := "falling", desc := "(ILInASackToTheRope$Trace;)I" } : Jvm.MethodName) prog_3_method_5_code (3 : Nat) (Option.some Jvm.ClassFile.FieldType.int)) ∈ lw_all := lw_g (lw_at lw_m6 114 rfl) rfl
theorem q1408 : (Jvm.Cond.methodLink "InASackToTheRope$Calm" (13 : Nat) ({ cls := "InASackToTheRope$Trace", name := "runs", desc := "(I)V" } : Jvm.MethodName)) ∈ lw_all := lw_g (lw_at lw_m6 115 rfl) rfl
theorem q1409 : (Jvm.Cond.methodLink "InASackToTheRope$Calm" (19 : Nat) ({ cls := "InASackToTheRope$Even", name := "falling", desc := "(ILInASackToTheRope$Trace;)I" } : Jvm.MethodName)) ∈ lw_all := lw_g (lw_at lw_m6 116 rfl) rfl
theorem q1431 : (Jvm.Cond.selects "InASackToTheRope$Calm" ({ cls := "InASackToTheRope$Hopper", name := "rising", desc := "(ILInASackToTheRope$Trace;)I" } : Jvm.MethodName) ({ cls := "InASackToTheRope$Hopper", name := "rising", desc := "(ILInASackToTheRope$Trace;)I" } : Jvm.MethodName)) ∈ lw_all := lw_g (lw_at lw_m6 138 rfl) rfl
theorem q2034 : (Jvm.Cond.selects "InASackToTheRope$Calm" ({ cls := "InASackToTheRope$Calm", name := "puff", desc := "()I" } : Jvm.MethodName) ({ cls := "InASackToTheRope$Calm", name := "puff", desc := "()I" } : Jvm.MethodName)) ∈ lw_all := lw_g (lw_at lw_m9 21 rfl) rfl
theorem q2035 : (Jvm.Cond.selects "InASackToTheRope$Calm" ({ cls := "InASackToTheRope$Hopper", name := "puff", desc := "()I" } : Jvm.MethodName) ({ cls := "InASackToTheRope$Calm", name := "puff", desc := "()I" } : Jvm.MethodName)) ∈ lw_all := lw_g (lw_at lw_m9 22 rfl) rfl
theorem q2050 : (Jvm.Cond.castable "InASackToTheRope$Calm" "InASackToTheRope$Hopper") ∈ lw_tbl := lw_at lw_m9 37 rfl
theorem q2056 : (Jvm.Cond.castable "InASackToTheRope$Calm" "InASackToTheRope$Even") ∈ lw_tbl := lw_at lw_m9 43 rfl
theorem in_X16 : ∀ w ∈ wsX160, w ∈ lw_all := lw_in wsX160 [830, 831] (by decide +kernel) (by decide +kernel)
/-! InASackToTheRope$Running -/
set_option maxRecDepth 100000
def RX17 : String := "InASackToTheRope$Running"
def TX17 : u_T := fun k => match k with
  | 0 => ("InASackToTheRope$Hopper", "index", "I", true)
  | _ => ("InASackToTheRope$Hopper", "by", "I", true)
def tyX17 : Nat → FieldType := fun k => match k with
  | 0 => .int
  | _ => .int
abbrev wsX170 : List Cond := u_ws RX17 TX17 2
theorem nmX17 : ∀ a, a < 2 → ∀ b, b < 2 → a ≠ b → (TX17 a).2.1 ≠ (TX17 b).2.1 := by decide +kernel
theorem tyX17_ok : ∀ k, k < 2 → parseFieldDescriptor (TX17 k).2.2.1 = some (tyX17 k) := by decide +kernel
abbrev cX17_stride : ByteArray := prog_17_method_4_code
def yX17_stride : MethodName := ⟨RX17, "stride", "(II)I"⟩
def dkwX17_stride_0 : List UInt8 := [4, 42, 27, 182, 0, 9, 28, 100, 184, 0, 15, 172]
abbrev dktX17_stride_0 : List UInt8 := dkwX17_stride_0 ++ []
theorem dksX17_stride_0 : cX17_stride.data.toList.drop 0 = dktX17_stride_0 := by decide +kernel
theorem dX17_stride_0 : decode cX17_stride 0 = .ok (.iconst 1, 1) := dk_4 (dk_at dksX17_stride_0 0 rfl rfl)
theorem dX17_stride_1 : decode cX17_stride 1 = .ok (.aload_n 0, 1) := dk_42 (dk_at dksX17_stride_0 1 rfl rfl)
theorem dX17_stride_2 : decode cX17_stride 2 = .ok (.iload_n 1, 1) := dk_27 (dk_at dksX17_stride_0 2 rfl rfl)
theorem dX17_stride_3 : decode cX17_stride 3 = .ok (.invokevirtual 9, 3) := dk_182 0 9 (dk_at dksX17_stride_0 3 rfl rfl)
theorem dX17_stride_6 : decode cX17_stride 6 = .ok (.iload_n 2, 1) := dk_28 (dk_at dksX17_stride_0 6 rfl rfl)
theorem dX17_stride_7 : decode cX17_stride 7 = .ok (.isub, 1) := dk_100 (dk_at dksX17_stride_0 7 rfl rfl)
theorem dX17_stride_8 : decode cX17_stride 8 = .ok (.invokestatic 15, 3) := dk_184 0 15 (dk_at dksX17_stride_0 8 rfl rfl)
theorem dX17_stride_11 : decode cX17_stride 11 = .ok (.ireturn, 1) := dk_172 (dk_at dksX17_stride_0 11 rfl rfl)
abbrev cX17_free : ByteArray := prog_17_method_3_code
def yX17_free : MethodName := ⟨RX17, "free", "(I)I"⟩
def dkwX17_free_0 : List UInt8 := [27, 4, 96, 172]
abbrev dktX17_free_0 : List UInt8 := dkwX17_free_0 ++ []
theorem dksX17_free_0 : cX17_free.data.toList.drop 0 = dktX17_free_0 := by decide +kernel
theorem dX17_free_0 : decode cX17_free 0 = .ok (.iload_n 1, 1) := dk_27 (dk_at dksX17_free_0 0 rfl rfl)
theorem dX17_free_1 : decode cX17_free 1 = .ok (.iconst 1, 1) := dk_4 (dk_at dksX17_free_0 1 rfl rfl)
theorem dX17_free_2 : decode cX17_free 2 = .ok (.iadd, 1) := dk_96 (dk_at dksX17_free_0 2 rfl rfl)
theorem dX17_free_3 : decode cX17_free 3 = .ok (.ireturn, 1) := dk_172 (dk_at dksX17_free_0 3 rfl rfl)
abbrev cX17_risk : ByteArray := prog_17_method_6_code
def yX17_risk : MethodName := ⟨RX17, "risk", "(III)I"⟩
def dkwX17_risk_0 : List UInt8 := [42, 27, 28, 29, 183, 0, 25, 5, 108, 172]
abbrev dktX17_risk_0 : List UInt8 := dkwX17_risk_0 ++ []
theorem dksX17_risk_0 : cX17_risk.data.toList.drop 0 = dktX17_risk_0 := by decide +kernel
theorem dX17_risk_0 : decode cX17_risk 0 = .ok (.aload_n 0, 1) := dk_42 (dk_at dksX17_risk_0 0 rfl rfl)
theorem dX17_risk_1 : decode cX17_risk 1 = .ok (.iload_n 1, 1) := dk_27 (dk_at dksX17_risk_0 1 rfl rfl)
theorem dX17_risk_2 : decode cX17_risk 2 = .ok (.iload_n 2, 1) := dk_28 (dk_at dksX17_risk_0 2 rfl rfl)
theorem dX17_risk_3 : decode cX17_risk 3 = .ok (.iload_n 3, 1) := dk_29 (dk_at dksX17_risk_0 3 rfl rfl)
theorem dX17_risk_4 : decode cX17_risk 4 = .ok (.invokespecial 25, 3) := dk_183 0 25 (dk_at dksX17_risk_0 4 rfl rfl)
theorem dX17_risk_7 : decode cX17_risk 7 = .ok (.iconst 2, 1) := dk_5 (dk_at dksX17_risk_0 7 rfl rfl)
theorem dX17_risk_8 : decode cX17_risk 8 = .ok (.idiv, 1) := dk_108 (dk_at dksX17_risk_0 8 rfl rfl)
theorem dX17_risk_9 : decode cX17_risk 9 = .ok (.ireturn, 1) := dk_172 (dk_at dksX17_risk_0 9 rfl rfl)
abbrev cX17_init : ByteArray := prog_17_method_1_code
def yX17_init : MethodName := ⟨RX17, "<init>", "(II)V"⟩
def dkwX17_init_0 : List UInt8 := [42, 27, 28, 183, 0, 3, 177]
abbrev dktX17_init_0 : List UInt8 := dkwX17_init_0 ++ []
theorem dksX17_init_0 : cX17_init.data.toList.drop 0 = dktX17_init_0 := by decide +kernel
theorem dX17_init_0 : decode cX17_init 0 = .ok (.aload_n 0, 1) := dk_42 (dk_at dksX17_init_0 0 rfl rfl)
theorem dX17_init_1 : decode cX17_init 1 = .ok (.iload_n 1, 1) := dk_27 (dk_at dksX17_init_0 1 rfl rfl)
theorem dX17_init_2 : decode cX17_init 2 = .ok (.iload_n 2, 1) := dk_28 (dk_at dksX17_init_0 2 rfl rfl)
theorem dX17_init_3 : decode cX17_init 3 = .ok (.invokespecial 3, 3) := dk_183 0 3 (dk_at dksX17_init_0 3 rfl rfl)
theorem dX17_init_6 : decode cX17_init 6 = .ok (.return_, 1) := dk_177 (dk_at dksX17_init_0 6 rfl rfl)
abbrev cX17_kind : ByteArray := prog_17_method_2_code
def yX17_kind : MethodName := ⟨RX17, "kind", "()I"⟩
theorem dX17_kind_0 : decode cX17_kind 0 = .ok (.iconst 4, 1) := by decide +kernel
theorem dX17_kind_1 : decode cX17_kind 1 = .ok (.ireturn, 1) := by decide +kernel
abbrev cX17_puff : ByteArray := prog_17_method_5_code
def yX17_puff : MethodName := ⟨RX17, "puff", "()I"⟩
def dkwX17_puff_0 : List UInt8 := [42, 183, 0, 21, 4, 96, 172]
abbrev dktX17_puff_0 : List UInt8 := dkwX17_puff_0 ++ []
theorem dksX17_puff_0 : cX17_puff.data.toList.drop 0 = dktX17_puff_0 := by decide +kernel
theorem dX17_puff_0 : decode cX17_puff 0 = .ok (.aload_n 0, 1) := dk_42 (dk_at dksX17_puff_0 0 rfl rfl)
theorem dX17_puff_1 : decode cX17_puff 1 = .ok (.invokespecial 21, 3) := dk_183 0 21 (dk_at dksX17_puff_0 1 rfl rfl)
theorem dX17_puff_4 : decode cX17_puff 4 = .ok (.iconst 1, 1) := dk_4 (dk_at dksX17_puff_0 4 rfl rfl)
theorem dX17_puff_5 : decode cX17_puff 5 = .ok (.iadd, 1) := dk_96 (dk_at dksX17_puff_0 5 rfl rfl)
theorem dX17_puff_6 : decode cX17_puff 6 = .ok (.ireturn, 1) := dk_172 (dk_at dksX17_puff_0 6 rfl rfl)
abbrev cX17_hopping : ByteArray := prog_17_method_8_code
def yX17_hopping : MethodName := ⟨RX17, "hopping", "(ILInASackToTheRope$Trace;)I"⟩
def dkwX17_hopping_0 : List UInt8 := [44, 16, 51, 182, 0, 29, 42, 27, 44, 183, 0, 39, 42, 180, 0, 42, 100, 172]
abbrev dktX17_hopping_0 : List UInt8 := dkwX17_hopping_0 ++ []
theorem dksX17_hopping_0 : cX17_hopping.data.toList.drop 0 = dktX17_hopping_0 := by decide +kernel
theorem dX17_hopping_0 : decode cX17_hopping 0 = .ok (.aload_n 2, 1) := dk_44 (dk_at dksX17_hopping_0 0 rfl rfl)
theorem dX17_hopping_1 : decode cX17_hopping 1 = .ok (.bipush 51, 2) := dk_16 51 (dk_at dksX17_hopping_0 1 rfl rfl)
theorem dX17_hopping_3 : decode cX17_hopping 3 = .ok (.invokevirtual 29, 3) := dk_182 0 29 (dk_at dksX17_hopping_0 3 rfl rfl)
theorem dX17_hopping_6 : decode cX17_hopping 6 = .ok (.aload_n 0, 1) := dk_42 (dk_at dksX17_hopping_0 6 rfl rfl)
theorem dX17_hopping_7 : decode cX17_hopping 7 = .ok (.iload_n 1, 1) := dk_27 (dk_at dksX17_hopping_0 7 rfl rfl)
theorem dX17_hopping_8 : decode cX17_hopping 8 = .ok (.aload_n 2, 1) := dk_44 (dk_at dksX17_hopping_0 8 rfl rfl)
theorem dX17_hopping_9 : decode cX17_hopping 9 = .ok (.invokespecial 39, 3) := dk_183 0 39 (dk_at dksX17_hopping_0 9 rfl rfl)
theorem dX17_hopping_12 : decode cX17_hopping 12 = .ok (.aload_n 0, 1) := dk_42 (dk_at dksX17_hopping_0 12 rfl rfl)
theorem dX17_hopping_13 : decode cX17_hopping 13 = .ok (.getfield 42, 3) := dk_180 0 42 (dk_at dksX17_hopping_0 13 rfl rfl)
theorem dX17_hopping_16 : decode cX17_hopping 16 = .ok (.isub, 1) := dk_100 (dk_at dksX17_hopping_0 16 rfl rfl)
theorem dX17_hopping_17 : decode cX17_hopping 17 = .ok (.ireturn, 1) := dk_172 (dk_at dksX17_hopping_0 17 rfl rfl)
abbrev cX17_rising : ByteArray := prog_17_method_7_code
def yX17_rising : MethodName := ⟨RX17, "rising", "(ILInASackToTheRope$Trace;)I"⟩
def dkwX17_rising_0 : List UInt8 := [44, 16, 50, 182, 0, 29, 42, 27, 44, 183, 0, 35, 116, 172]
abbrev dktX17_rising_0 : List UInt8 := dkwX17_rising_0 ++ []
theorem dksX17_rising_0 : cX17_rising.data.toList.drop 0 = dktX17_rising_0 := by decide +kernel
theorem dX17_rising_0 : decode cX17_rising 0 = .ok (.aload_n 2, 1) := dk_44 (dk_at dksX17_rising_0 0 rfl rfl)
theorem dX17_rising_1 : decode cX17_rising 1 = .ok (.bipush 50, 2) := dk_16 50 (dk_at dksX17_rising_0 1 rfl rfl)
theorem dX17_rising_3 : decode cX17_rising 3 = .ok (.invokevirtual 29, 3) := dk_182 0 29 (dk_at dksX17_rising_0 3 rfl rfl)
theorem dX17_rising_6 : decode cX17_rising 6 = .ok (.aload_n 0, 1) := dk_42 (dk_at dksX17_rising_0 6 rfl rfl)
theorem dX17_rising_7 : decode cX17_rising 7 = .ok (.iload_n 1, 1) := dk_27 (dk_at dksX17_rising_0 7 rfl rfl)
theorem dX17_rising_8 : decode cX17_rising 8 = .ok (.aload_n 2, 1) := dk_44 (dk_at dksX17_rising_0 8 rfl rfl)
theorem dX17_rising_9 : decode cX17_rising 9 = .ok (.invokespecial 35, 3) := dk_183 0 35 (dk_at dksX17_rising_0 9 rfl rfl)
theorem dX17_rising_12 : decode cX17_rising 12 = .ok (.ineg, 1) := dk_116 (dk_at dksX17_rising_0 12 rfl rfl)
theorem dX17_rising_13 : decode cX17_rising 13 = .ok (.ireturn, 1) := dk_172 (dk_at dksX17_rising_0 13 rfl rfl)
theorem q121 : (Jvm.Cond.initialized "InASackToTheRope$Running") ∈ lw_all := lw_g (lw_at lw_m1 28 rfl) rfl
theorem q727 : (Jvm.Cond.selects "InASackToTheRope$Running" ({ cls := "InASackToTheRope$Hopper", name := "stride", desc := "(II)I" } : Jvm.MethodName) ({ cls := "InASackToTheRope$Running", name := "stride", desc := "(II)I" } : Jvm.MethodName)) ∈ lw_all := lw_g (lw_at lw_m3 154 rfl) rfl
theorem q728 : (Jvm.Cond.instanceMethod ({ cls := "InASackToTheRope$Running", name := "stride", desc := "(II)I" } : Jvm.MethodName)) ∈ lw_all := lw_g (lw_at lw_m3 155 rfl) rfl
theorem q729 : (Jvm.Cond.code ({ cls := "InASackToTheRope$Running", name := "stride", desc := "(II)I" } : Jvm.MethodName) prog_17_method_4_code (3 : Nat) (Option.some Jvm.ClassFile.FieldType.int)) ∈ lw_all := lw_g (lw_at lw_m3 156 rfl) rfl
theorem q730 : (Jvm.Cond.methodLink "InASackToTheRope$Running" (9 : Nat) ({ cls := "InASackToTheRope$Running", name := "free", desc := "(I)I" } : Jvm.MethodName)) ∈ lw_all := lw_g (lw_at lw_m3 157 rfl) rfl
theorem q731 : (Jvm.Cond.instanceMethod ({ cls := "InASackToTheRope$Running", name := "free", desc := "(I)I" } : Jvm.MethodName)) ∈ lw_all := lw_g (lw_at lw_m3 158 rfl) rfl
theorem q732 : (Jvm.Cond.selects "InASackToTheRope$Running" ({ cls := "InASackToTheRope$Running", name := "free", desc := "(I)I" } : Jvm.MethodName) ({ cls := "InASackToTheRope$Running", name := "free", desc := "(I)I" } : Jvm.MethodName)) ∈ lw_all := lw_g (lw_at lw_m3 159 rfl) rfl
theorem q733 : (Jvm.Cond.sameMethod "InASackToTheRope$Running" "InASackToTheRope$Running" "free" "(I)I") ∈ lw_all := lw_g (lw_at lw_m3 160 rfl) rfl
theorem q739 : (Jvm.Cond.code ({ cls := "InASackToTheRope$Running", name := "free", desc := "(I)I" } : Jvm.MethodName) prog_17_method_3_code (2 : Nat) (Option.some Jvm.ClassFile.FieldType.int)) ∈ lw_all := lw_g (lw_at lw_m3 166 rfl) rfl
theorem q740 : (Jvm.Cond.methodLink "InASackToTheRope$Running" (15 : Nat) ({ cls := "java/lang/Math", name := "max", desc := "(II)I" } : Jvm.MethodName)) ∈ lw_all := lw_g (lw_at lw_m3 167 rfl) rfl
theorem q761 : (Jvm.Cond.selects "InASackToTheRope$Running" ({ cls := "InASackToTheRope$Hopper", name := "risk", desc := "(III)I" } : Jvm.MethodName) ({ cls := "InASackToTheRope$Running", name := "risk", desc := "(III)I" } : Jvm.MethodName)) ∈ lw_all := lw_g (lw_at lw_m3 188 rfl) rfl
theorem q762 : (Jvm.Cond.instanceMethod ({ cls := "InASackToTheRope$Running", name := "risk", desc := "(III)I" } : Jvm.MethodName)) ∈ lw_all := lw_g (lw_at lw_m3 189 rfl) rfl
theorem q763 : (Jvm.Cond.code ({ cls := "InASackToTheRope$Running", name := "risk", desc := "(III)I" } : Jvm.MethodName) prog_17_method_6_code (4 : Nat) (Option.some Jvm.ClassFile.FieldType.int)) ∈ lw_all := lw_g (lw_at lw_m3 190 rfl) rfl
theorem q764 : (Jvm.Cond.methodLink "InASackToTheRope$Running" (25 : Nat) ({ cls := "InASackToTheRope$Hopper", name := "risk", desc := "(III)I" } : Jvm.MethodName)) ∈ lw_all := lw_g (lw_at lw_m3 191 rfl) rfl
theorem q765 : (Jvm.Cond.superclass "InASackToTheRope$Running" "InASackToTheRope$Hopper") ∈ lw_all := lw_g (lw_at lw_m3 192 rfl) rfl
theorem q796 : (Jvm.Cond.sameField "InASackToTheRope$Running" "InASackToTheRope$Hopper" "index" "I") ∈ lw_all := lw_g (lw_at lw_m3 223 rfl) rfl
theorem q802 : (Jvm.Cond.fieldLink "InASackToTheRope$Running" (42 : Nat) "InASackToTheRope$Running" "index" "I") ∈ lw_all := lw_g (lw_at lw_m3 229 rfl) rfl
theorem q833 : (Jvm.Cond.instantiable "InASackToTheRope$Running" (2 : Nat)) ∈ lw_all := lw_g (lw_at lw_m4 20 rfl) rfl
theorem q835 : (Jvm.Cond.instanceMethod ({ cls := "InASackToTheRope$Running", name := "<init>", desc := "(II)V" } : Jvm.MethodName)) ∈ lw_all := lw_g (lw_at lw_m4 22 rfl) rfl
theorem q836 : (Jvm.Cond.code ({ cls := "InASackToTheRope$Running", name := "<init>", desc := "(II)V" } : Jvm.MethodName) prog_17_method_1_code (3 : Nat) (Option.none : Option Jvm.ClassFile.FieldType)) ∈ lw_all := lw_g (lw_at lw_m4 23 rfl) rfl
theorem q837 : (Jvm.Cond.methodLink "InASackToTheRope$Running" (3 : Nat) ({ cls := "InASackToTheRope$Hopper", name := "<init>", desc := "(II)V" } : Jvm.MethodName)) ∈ lw_all := lw_g (lw_at lw_m4 24 rfl) rfl
theorem q838 : (Jvm.Cond.laysFinal "InASackToTheRope$Running" "InASackToTheRope$Hopper" "index" "I") ∈ lw_all := lw_g (lw_at lw_m4 25 rfl) rfl
theorem q839 : (Jvm.Cond.laysFinal "InASackToTheRope$Running" "InASackToTheRope$Hopper" "by" "I") ∈ lw_all := lw_g (lw_at lw_m4 26 rfl) rfl
theorem q894 : (Jvm.Cond.selects "InASackToTheRope$Running" ({ cls := "InASackToTheRope$Hopper", name := "kind", desc := "()I" } : Jvm.MethodName) ({ cls := "InASackToTheRope$Running", name := "kind", desc := "()I" } : Jvm.MethodName)) ∈ lw_all := lw_g (lw_at lw_m4 81 rfl) rfl
theorem q895 : (Jvm.Cond.instanceMethod ({ cls := "InASackToTheRope$Running", name := "kind", desc := "()I" } : Jvm.MethodName)) ∈ lw_all := lw_g (lw_at lw_m4 82 rfl) rfl
theorem q896 : (Jvm.Cond.code ({ cls := "InASackToTheRope$Running", name := "kind", desc := "()I" } : Jvm.MethodName) prog_17_method_2_code (1 : Nat) (Option.some Jvm.ClassFile.FieldType.int)) ∈ lw_all := lw_g (lw_at lw_m4 83 rfl) rfl
theorem q909 : (Jvm.Cond.instanceMethod ({ cls := "InASackToTheRope$Running", name := "puff", desc := "()I" } : Jvm.MethodName)) ∈ lw_all := lw_g (lw_at lw_m4 96 rfl) rfl
theorem q910 : (Jvm.Cond.code ({ cls := "InASackToTheRope$Running", name := "puff", desc := "()I" } : Jvm.MethodName) prog_17_method_5_code (1 : Nat) (Option.some Jvm.ClassFile.FieldType.int)) ∈ lw_all := lw_g (lw_at lw_m4 97 rfl) rfl
theorem q911 : (Jvm.Cond.methodLink "InASackToTheRope$Running" (21 : Nat) ({ cls := "InASackToTheRope$Hopper", name := "puff", desc := "()I" } : Jvm.MethodName)) ∈ lw_all := lw_g (lw_at lw_m4 98 rfl) rfl
theorem q1391 : (Jvm.Cond.selects "InASackToTheRope$Running" ({ cls := "InASackToTheRope$Hopper", name := "hopping", desc := "(ILInASackToTheRope$Trace;)I" } : Jvm.MethodName) ({ cls := "InASackToTheRope$Running", name := "hopping", desc := "(ILInASackToTheRope$Trace;)I" } : Jvm.MethodName)) ∈ lw_all := lw_g (lw_at lw_m6 98 rfl) rfl
theorem q1392 : (Jvm.Cond.instanceMethod ({ cls := "InASackToTheRope$Running", name := "hopping", desc := "(ILInASackToTheRope$Trace;)I" } : Jvm.MethodName)) ∈ lw_all := lw_g (lw_at lw_m6 99 rfl) rfl
theorem q1393 : (Jvm.Cond.code ({ cls := "InASackToTheRope$Running", name := "hopping", desc := "(ILInASackToTheRope$Trace;)I" } : Jvm.MethodName) prog_17_method_8_code (3 : Nat) (Option.some Jvm.ClassFile.FieldType.int)) ∈ lw_all := lw_g (lw_at lw_m6 100 rfl) rfl
theorem q1394 : (Jvm.Cond.methodLink "InASackToTheRope$Running" (29 : Nat) ({ cls := "InASackToTheRope$Trace", name := "runs", desc := "(I)V" } : Jvm.MethodName)) ∈ lw_all := lw_g (lw_at lw_m6 101 rfl) rfl
theorem q1395 : (Jvm.Cond.methodLink "InASackToTheRope$Running" (39 : Nat) ({ cls := "InASackToTheRope$Hopper", name := "hopping", desc := "(ILInASackToTheRope$Trace;)I" } : Jvm.MethodName)) ∈ lw_all := lw_g (lw_at lw_m6 102 rfl) rfl
theorem q1421 : (Jvm.Cond.selects "InASackToTheRope$Running" ({ cls := "InASackToTheRope$Hopper", name := "falling", desc := "(ILInASackToTheRope$Trace;)I" } : Jvm.MethodName) ({ cls := "InASackToTheRope$Hopper", name := "falling", desc := "(ILInASackToTheRope$Trace;)I" } : Jvm.MethodName)) ∈ lw_all := lw_g (lw_at lw_m6 128 rfl) rfl
theorem q1426 : (Jvm.Cond.sameMethod "InASackToTheRope$Running" "InASackToTheRope$Hopper" "falling" "(ILInASackToTheRope$Trace;)I") ∈ lw_all := lw_g (lw_at lw_m6 133 rfl) rfl
theorem q1443 : (Jvm.Cond.selects "InASackToTheRope$Running" ({ cls := "InASackToTheRope$Hopper", name := "rising", desc := "(ILInASackToTheRope$Trace;)I" } : Jvm.MethodName) ({ cls := "InASackToTheRope$Running", name := "rising", desc := "(ILInASackToTheRope$Trace;)I" } : Jvm.MethodName)) ∈ lw_all := lw_g (lw_at lw_m6 150 rfl) rfl
theorem q1444 : (Jvm.Cond.instanceMethod ({ cls := "InASackToTheRope$Running", name := "rising", desc := "(ILInASackToTheRope$Trace;)I" } : Jvm.MethodName)) ∈ lw_all := lw_g (lw_at lw_m6 151 rfl) rfl
theorem q1445 : (Jvm.Cond.code ({ cls := "InASackToTheRope$Running", name := "rising", desc := "(ILInASackToTheRope$Trace;)I" } : Jvm.MethodName) prog_17_method_7_code (3 : Nat) (Option.some Jvm.ClassFile.FieldType.int)) ∈ lw_all := lw_g (lw_at lw_m6 152 rfl) rfl
theorem q1446 : (Jvm.Cond.methodLink "InASackToTheRope$Running" (35 : Nat) ({ cls := "InASackToTheRope$Hopper", name := "rising", desc := "(ILInASackToTheRope$Trace;)I" } : Jvm.MethodName)) ∈ lw_all := lw_g (lw_at lw_m6 153 rfl) rfl
theorem q2041 : (Jvm.Cond.selects "InASackToTheRope$Running" ({ cls := "InASackToTheRope$Hopper", name := "puff", desc := "()I" } : Jvm.MethodName) ({ cls := "InASackToTheRope$Running", name := "puff", desc := "()I" } : Jvm.MethodName)) ∈ lw_all := lw_g (lw_at lw_m9 28 rfl) rfl
theorem q2043 : (Jvm.Cond.sameMethod "InASackToTheRope$Running" "InASackToTheRope$Running" "puff" "()I") ∈ lw_all := lw_g (lw_at lw_m9 30 rfl) rfl
theorem q2044 : (Jvm.Cond.sameMethod "InASackToTheRope$Running" "InASackToTheRope$Running" "hopping" "(ILInASackToTheRope$Trace;)I") ∈ lw_all := lw_g (lw_at lw_m9 31 rfl) rfl
theorem q2054 : (Jvm.Cond.castable "InASackToTheRope$Running" "InASackToTheRope$Hopper") ∈ lw_tbl := lw_at lw_m9 41 rfl
theorem in_X17 : ∀ w ∈ wsX170, w ∈ lw_all := lw_in wsX170 [838, 839] (by decide +kernel) (by decide +kernel)
/-! InASackToTheRope$Greedy -/
set_option maxRecDepth 100000
def RX18 : String := "InASackToTheRope$Greedy"
def TX18 : u_T := fun k => match k with
  | 0 => ("InASackToTheRope$Hopper", "index", "I", true)
  | _ => ("InASackToTheRope$Hopper", "by", "I", true)
def tyX18 : Nat → FieldType := fun k => match k with
  | 0 => .int
  | _ => .int
abbrev wsX180 : List Cond := u_ws RX18 TX18 2
theorem nmX18 : ∀ a, a < 2 → ∀ b, b < 2 → a ≠ b → (TX18 a).2.1 ≠ (TX18 b).2.1 := by decide +kernel
theorem tyX18_ok : ∀ k, k < 2 → parseFieldDescriptor (TX18 k).2.2.1 = some (tyX18 k) := by decide +kernel
abbrev cX18_stride : ByteArray := prog_9_method_3_code
def yX18_stride : MethodName := ⟨RX18, "stride", "(II)I"⟩
def dkwX18_stride_0 : List UInt8 := [27, 42, 180, 0, 9, 96, 172]
abbrev dktX18_stride_0 : List UInt8 := dkwX18_stride_0 ++ []
theorem dksX18_stride_0 : cX18_stride.data.toList.drop 0 = dktX18_stride_0 := by decide +kernel
theorem dX18_stride_0 : decode cX18_stride 0 = .ok (.iload_n 1, 1) := dk_27 (dk_at dksX18_stride_0 0 rfl rfl)
theorem dX18_stride_1 : decode cX18_stride 1 = .ok (.aload_n 0, 1) := dk_42 (dk_at dksX18_stride_0 1 rfl rfl)
theorem dX18_stride_2 : decode cX18_stride 2 = .ok (.getfield 9, 3) := dk_180 0 9 (dk_at dksX18_stride_0 2 rfl rfl)
theorem dX18_stride_5 : decode cX18_stride 5 = .ok (.iadd, 1) := dk_96 (dk_at dksX18_stride_0 5 rfl rfl)
theorem dX18_stride_6 : decode cX18_stride 6 = .ok (.ireturn, 1) := dk_172 (dk_at dksX18_stride_0 6 rfl rfl)
abbrev cX18_init : ByteArray := prog_9_method_1_code
def yX18_init : MethodName := ⟨RX18, "<init>", "(II)V"⟩
def dkwX18_init_0 : List UInt8 := [42, 27, 28, 183, 0, 3, 177]
abbrev dktX18_init_0 : List UInt8 := dkwX18_init_0 ++ []
theorem dksX18_init_0 : cX18_init.data.toList.drop 0 = dktX18_init_0 := by decide +kernel
theorem dX18_init_0 : decode cX18_init 0 = .ok (.aload_n 0, 1) := dk_42 (dk_at dksX18_init_0 0 rfl rfl)
theorem dX18_init_1 : decode cX18_init 1 = .ok (.iload_n 1, 1) := dk_27 (dk_at dksX18_init_0 1 rfl rfl)
theorem dX18_init_2 : decode cX18_init 2 = .ok (.iload_n 2, 1) := dk_28 (dk_at dksX18_init_0 2 rfl rfl)
theorem dX18_init_3 : decode cX18_init 3 = .ok (.invokespecial 3, 3) := dk_183 0 3 (dk_at dksX18_init_0 3 rfl rfl)
theorem dX18_init_6 : decode cX18_init 6 = .ok (.return_, 1) := dk_177 (dk_at dksX18_init_0 6 rfl rfl)
abbrev cX18_kind : ByteArray := prog_9_method_2_code
def yX18_kind : MethodName := ⟨RX18, "kind", "()I"⟩
theorem dX18_kind_0 : decode cX18_kind 0 = .ok (.iconst 5, 1) := by decide +kernel
theorem dX18_kind_1 : decode cX18_kind 1 = .ok (.ireturn, 1) := by decide +kernel
abbrev cX18_puff : ByteArray := prog_9_method_4_code
def yX18_puff : MethodName := ⟨RX18, "puff", "()I"⟩
def dkwX18_puff_0 : List UInt8 := [42, 183, 0, 15, 4, 96, 172]
abbrev dktX18_puff_0 : List UInt8 := dkwX18_puff_0 ++ []
theorem dksX18_puff_0 : cX18_puff.data.toList.drop 0 = dktX18_puff_0 := by decide +kernel
theorem dX18_puff_0 : decode cX18_puff 0 = .ok (.aload_n 0, 1) := dk_42 (dk_at dksX18_puff_0 0 rfl rfl)
theorem dX18_puff_1 : decode cX18_puff 1 = .ok (.invokespecial 15, 3) := dk_183 0 15 (dk_at dksX18_puff_0 1 rfl rfl)
theorem dX18_puff_4 : decode cX18_puff 4 = .ok (.iconst 1, 1) := dk_4 (dk_at dksX18_puff_0 4 rfl rfl)
theorem dX18_puff_5 : decode cX18_puff 5 = .ok (.iadd, 1) := dk_96 (dk_at dksX18_puff_0 5 rfl rfl)
theorem dX18_puff_6 : decode cX18_puff 6 = .ok (.ireturn, 1) := dk_172 (dk_at dksX18_puff_0 6 rfl rfl)
abbrev cX18_rising : ByteArray := prog_9_method_5_code
def yX18_rising : MethodName := ⟨RX18, "rising", "(ILInASackToTheRope$Trace;)I"⟩
def dkwX18_rising_0 : List UInt8 := [44, 16, 60, 182, 0, 19, 42, 27, 44, 183, 0, 25, 8, 130, 172]
abbrev dktX18_rising_0 : List UInt8 := dkwX18_rising_0 ++ []
theorem dksX18_rising_0 : cX18_rising.data.toList.drop 0 = dktX18_rising_0 := by decide +kernel
theorem dX18_rising_0 : decode cX18_rising 0 = .ok (.aload_n 2, 1) := dk_44 (dk_at dksX18_rising_0 0 rfl rfl)
theorem dX18_rising_1 : decode cX18_rising 1 = .ok (.bipush 60, 2) := dk_16 60 (dk_at dksX18_rising_0 1 rfl rfl)
theorem dX18_rising_3 : decode cX18_rising 3 = .ok (.invokevirtual 19, 3) := dk_182 0 19 (dk_at dksX18_rising_0 3 rfl rfl)
theorem dX18_rising_6 : decode cX18_rising 6 = .ok (.aload_n 0, 1) := dk_42 (dk_at dksX18_rising_0 6 rfl rfl)
theorem dX18_rising_7 : decode cX18_rising 7 = .ok (.iload_n 1, 1) := dk_27 (dk_at dksX18_rising_0 7 rfl rfl)
theorem dX18_rising_8 : decode cX18_rising 8 = .ok (.aload_n 2, 1) := dk_44 (dk_at dksX18_rising_0 8 rfl rfl)
theorem dX18_rising_9 : decode cX18_rising 9 = .ok (.invokespecial 25, 3) := dk_183 0 25 (dk_at dksX18_rising_0 9 rfl rfl)
theorem dX18_rising_12 : decode cX18_rising 12 = .ok (.iconst 5, 1) := dk_8 (dk_at dksX18_rising_0 12 rfl rfl)
theorem dX18_rising_13 : decode cX18_rising 13 = .ok (.ixor, 1) := dk_130 (dk_at dksX18_rising_0 13 rfl rfl)
theorem dX18_rising_14 : decode cX18_rising 14 = .ok (.ireturn, 1) := dk_172 (dk_at dksX18_rising_0 14 rfl rfl)
theorem q122 : (Jvm.Cond.initialized "InASackToTheRope$Greedy") ∈ lw_all := lw_g (lw_at lw_m1 29 rfl) rfl
theorem q724 : (Jvm.Cond.selects "InASackToTheRope$Greedy" ({ cls := "InASackToTheRope$Hopper", name := "stride", desc := "(II)I" } : Jvm.MethodName) ({ cls := "InASackToTheRope$Greedy", name := "stride", desc := "(II)I" } : Jvm.MethodName)) ∈ lw_all := lw_g (lw_at lw_m3 151 rfl) rfl
theorem q725 : (Jvm.Cond.instanceMethod ({ cls := "InASackToTheRope$Greedy", name := "stride", desc := "(II)I" } : Jvm.MethodName)) ∈ lw_all := lw_g (lw_at lw_m3 152 rfl) rfl
theorem q726 : (Jvm.Cond.code ({ cls := "InASackToTheRope$Greedy", name := "stride", desc := "(II)I" } : Jvm.MethodName) prog_9_method_3_code (3 : Nat) (Option.some Jvm.ClassFile.FieldType.int)) ∈ lw_all := lw_g (lw_at lw_m3 153 rfl) rfl
theorem q760 : (Jvm.Cond.selects "InASackToTheRope$Greedy" ({ cls := "InASackToTheRope$Hopper", name := "risk", desc := "(III)I" } : Jvm.MethodName) ({ cls := "InASackToTheRope$Hopper", name := "risk", desc := "(III)I" } : Jvm.MethodName)) ∈ lw_all := lw_g (lw_at lw_m3 187 rfl) rfl
theorem q798 : (Jvm.Cond.sameField "InASackToTheRope$Greedy" "InASackToTheRope$Hopper" "index" "I") ∈ lw_all := lw_g (lw_at lw_m3 225 rfl) rfl
theorem q805 : (Jvm.Cond.fieldLink "InASackToTheRope$Greedy" (9 : Nat) "InASackToTheRope$Greedy" "by" "I") ∈ lw_all := lw_g (lw_at lw_m3 232 rfl) rfl
theorem q806 : (Jvm.Cond.sameField "InASackToTheRope$Greedy" "InASackToTheRope$Hopper" "by" "I") ∈ lw_all := lw_g (lw_at lw_m3 233 rfl) rfl
theorem q841 : (Jvm.Cond.instantiable "InASackToTheRope$Greedy" (2 : Nat)) ∈ lw_all := lw_g (lw_at lw_m4 28 rfl) rfl
theorem q843 : (Jvm.Cond.instanceMethod ({ cls := "InASackToTheRope$Greedy", name := "<init>", desc := "(II)V" } : Jvm.MethodName)) ∈ lw_all := lw_g (lw_at lw_m4 30 rfl) rfl
theorem q844 : (Jvm.Cond.code ({ cls := "InASackToTheRope$Greedy", name := "<init>", desc := "(II)V" } : Jvm.MethodName) prog_9_method_1_code (3 : Nat) (Option.none : Option Jvm.ClassFile.FieldType)) ∈ lw_all := lw_g (lw_at lw_m4 31 rfl) rfl
theorem q845 : (Jvm.Cond.methodLink "InASackToTheRope$Greedy" (3 : Nat) ({ cls := "InASackToTheRope$Far", name := "<init>", desc := "(II)V" } : Jvm.MethodName)) ∈ lw_all := lw_g (lw_at lw_m4 32 rfl) rfl
theorem q846 : (Jvm.Cond.laysFinal "InASackToTheRope$Greedy" "InASackToTheRope$Hopper" "index" "I") ∈ lw_all := lw_g (lw_at lw_m4 33 rfl) rfl
theorem q847 : (Jvm.Cond.laysFinal "InASackToTheRope$Greedy" "InASackToTheRope$Hopper" "by" "I") ∈ lw_all := lw_g (lw_at lw_m4 34 rfl) rfl
theorem q848 : (Jvm.Cond.superclass "InASackToTheRope$Greedy" "InASackToTheRope$Far") ∈ lw_all := lw_g (lw_at lw_m4 35 rfl) rfl
theorem q891 : (Jvm.Cond.selects "InASackToTheRope$Greedy" ({ cls := "InASackToTheRope$Hopper", name := "kind", desc := "()I" } : Jvm.MethodName) ({ cls := "InASackToTheRope$Greedy", name := "kind", desc := "()I" } : Jvm.MethodName)) ∈ lw_all := lw_g (lw_at lw_m4 78 rfl) rfl
theorem q892 : (Jvm.Cond.instanceMethod ({ cls := "InASackToTheRope$Greedy", name := "kind", desc := "()I" } : Jvm.MethodName)) ∈ lw_all := lw_g (lw_at lw_m4 79 rfl) rfl
theorem q893 : (Jvm.Cond.code ({ cls := "InASackToTheRope$Greedy", name := "kind", desc := "()I" } : Jvm.MethodName) prog_9_method_2_code (1 : Nat) (Option.some Jvm.ClassFile.FieldType.int)) ∈ lw_all := lw_g (lw_at lw_m4 80 rfl) rfl
theorem q906 : (Jvm.Cond.instanceMethod ({ cls := "InASackToTheRope$Greedy", name := "puff", desc := "()I" } : Jvm.MethodName)) ∈ lw_all := lw_g (lw_at lw_m4 93 rfl) rfl
theorem q907 : (Jvm.Cond.code ({ cls := "InASackToTheRope$Greedy", name := "puff", desc := "()I" } : Jvm.MethodName) prog_9_method_4_code (1 : Nat) (Option.some Jvm.ClassFile.FieldType.int)) ∈ lw_all := lw_g (lw_at lw_m4 94 rfl) rfl
theorem q908 : (Jvm.Cond.methodLink "InASackToTheRope$Greedy" (15 : Nat) ({ cls := "InASackToTheRope$Far", name := "puff", desc := "()I" } : Jvm.MethodName)) ∈ lw_all := lw_g (lw_at lw_m4 95 rfl) rfl
theorem q1390 : (Jvm.Cond.selects "InASackToTheRope$Greedy" ({ cls := "InASackToTheRope$Hopper", name := "hopping", desc := "(ILInASackToTheRope$Trace;)I" } : Jvm.MethodName) ({ cls := "InASackToTheRope$Hopper", name := "hopping", desc := "(ILInASackToTheRope$Trace;)I" } : Jvm.MethodName)) ∈ lw_all := lw_g (lw_at lw_m6 97 rfl) rfl
theorem q1420 : (Jvm.Cond.selects "InASackToTheRope$Greedy" ({ cls := "InASackToTheRope$Hopper", name := "falling", desc := "(ILInASackToTheRope$Trace;)I" } : Jvm.MethodName) ({ cls := "InASackToTheRope$Far", name := "falling", desc := "(ILInASackToTheRope$Trace;)I" } : Jvm.MethodName)) ∈ lw_all := lw_g (lw_at lw_m6 127 rfl) rfl
theorem q1434 : (Jvm.Cond.selects "InASackToTheRope$Greedy" ({ cls := "InASackToTheRope$Hopper", name := "rising", desc := "(ILInASackToTheRope$Trace;)I" } : Jvm.MethodName) ({ cls := "InASackToTheRope$Greedy", name := "rising", desc := "(ILInASackToTheRope$Trace;)I" } : Jvm.MethodName)) ∈ lw_all := lw_g (lw_at lw_m6 141 rfl) rfl
theorem q1435 : (Jvm.Cond.instanceMethod ({ cls := "InASackToTheRope$Greedy", name := "rising", desc := "(ILInASackToTheRope$Trace;)I" } : Jvm.MethodName)) ∈ lw_all := lw_g (lw_at lw_m6 142 rfl) rfl
theorem q1436 : (Jvm.Cond.code ({ cls := "InASackToTheRope$Greedy", name := "rising", desc := "(ILInASackToTheRope$Trace;)I" } : Jvm.MethodName) prog_9_method_5_code (3 : Nat) (Option.some Jvm.ClassFile.FieldType.int)) ∈ lw_all := lw_g (lw_at lw_m6 143 rfl) rfl
theorem q1437 : (Jvm.Cond.methodLink "InASackToTheRope$Greedy" (19 : Nat) ({ cls := "InASackToTheRope$Trace", name := "runs", desc := "(I)V" } : Jvm.MethodName)) ∈ lw_all := lw_g (lw_at lw_m6 144 rfl) rfl
theorem q1438 : (Jvm.Cond.methodLink "InASackToTheRope$Greedy" (25 : Nat) ({ cls := "InASackToTheRope$Far", name := "rising", desc := "(ILInASackToTheRope$Trace;)I" } : Jvm.MethodName)) ∈ lw_all := lw_g (lw_at lw_m6 145 rfl) rfl
theorem q2038 : (Jvm.Cond.selects "InASackToTheRope$Greedy" ({ cls := "InASackToTheRope$Hopper", name := "puff", desc := "()I" } : Jvm.MethodName) ({ cls := "InASackToTheRope$Greedy", name := "puff", desc := "()I" } : Jvm.MethodName)) ∈ lw_all := lw_g (lw_at lw_m9 25 rfl) rfl
theorem q2053 : (Jvm.Cond.castable "InASackToTheRope$Greedy" "InASackToTheRope$Hopper") ∈ lw_tbl := lw_at lw_m9 40 rfl
theorem q2057 : (Jvm.Cond.castable "InASackToTheRope$Greedy" "InASackToTheRope$Far") ∈ lw_tbl := lw_at lw_m9 44 rfl
theorem in_X18 : ∀ w ∈ wsX180, w ∈ lw_all := lw_in wsX180 [846, 847] (by decide +kernel) (by decide +kernel)
/-! InASackToTheRope$Tiptoe -/
set_option maxRecDepth 100000
def RX19 : String := "InASackToTheRope$Tiptoe"
def TX19 : u_T := fun k => match k with
  | 0 => ("InASackToTheRope$Hopper", "index", "I", true)
  | _ => ("InASackToTheRope$Hopper", "by", "I", true)
def tyX19 : Nat → FieldType := fun k => match k with
  | 0 => .int
  | _ => .int
abbrev wsX190 : List Cond := u_ws RX19 TX19 2
theorem nmX19 : ∀ a, a < 2 → ∀ b, b < 2 → a ≠ b → (TX19 a).2.1 ≠ (TX19 b).2.1 := by decide +kernel
theorem tyX19_ok : ∀ k, k < 2 → parseFieldDescriptor (TX19 k).2.2.1 = some (tyX19 k) := by decide +kernel
abbrev cX19_free : ByteArray := prog_20_method_3_code
def yX19_free : MethodName := ⟨RX19, "free", "(I)I"⟩
def dkwX19_free_0 : List UInt8 := [42, 27, 183, 0, 9, 4, 100, 172]
abbrev dktX19_free_0 : List UInt8 := dkwX19_free_0 ++ []
theorem dksX19_free_0 : cX19_free.data.toList.drop 0 = dktX19_free_0 := by decide +kernel
theorem dX19_free_0 : decode cX19_free 0 = .ok (.aload_n 0, 1) := dk_42 (dk_at dksX19_free_0 0 rfl rfl)
theorem dX19_free_1 : decode cX19_free 1 = .ok (.iload_n 1, 1) := dk_27 (dk_at dksX19_free_0 1 rfl rfl)
theorem dX19_free_2 : decode cX19_free 2 = .ok (.invokespecial 9, 3) := dk_183 0 9 (dk_at dksX19_free_0 2 rfl rfl)
theorem dX19_free_5 : decode cX19_free 5 = .ok (.iconst 1, 1) := dk_4 (dk_at dksX19_free_0 5 rfl rfl)
theorem dX19_free_6 : decode cX19_free 6 = .ok (.isub, 1) := dk_100 (dk_at dksX19_free_0 6 rfl rfl)
theorem dX19_free_7 : decode cX19_free 7 = .ok (.ireturn, 1) := dk_172 (dk_at dksX19_free_0 7 rfl rfl)
abbrev cX19_init : ByteArray := prog_20_method_1_code
def yX19_init : MethodName := ⟨RX19, "<init>", "(II)V"⟩
def dkwX19_init_0 : List UInt8 := [42, 27, 28, 183, 0, 3, 177]
abbrev dktX19_init_0 : List UInt8 := dkwX19_init_0 ++ []
theorem dksX19_init_0 : cX19_init.data.toList.drop 0 = dktX19_init_0 := by decide +kernel
theorem dX19_init_0 : decode cX19_init 0 = .ok (.aload_n 0, 1) := dk_42 (dk_at dksX19_init_0 0 rfl rfl)
theorem dX19_init_1 : decode cX19_init 1 = .ok (.iload_n 1, 1) := dk_27 (dk_at dksX19_init_0 1 rfl rfl)
theorem dX19_init_2 : decode cX19_init 2 = .ok (.iload_n 2, 1) := dk_28 (dk_at dksX19_init_0 2 rfl rfl)
theorem dX19_init_3 : decode cX19_init 3 = .ok (.invokespecial 3, 3) := dk_183 0 3 (dk_at dksX19_init_0 3 rfl rfl)
theorem dX19_init_6 : decode cX19_init 6 = .ok (.return_, 1) := dk_177 (dk_at dksX19_init_0 6 rfl rfl)
abbrev cX19_kind : ByteArray := prog_20_method_2_code
def yX19_kind : MethodName := ⟨RX19, "kind", "()I"⟩
theorem dX19_kind_0 : decode cX19_kind 0 = .ok (.bipush 6, 2) := by decide +kernel
theorem dX19_kind_2 : decode cX19_kind 2 = .ok (.ireturn, 1) := by decide +kernel
abbrev cX19_puff : ByteArray := prog_20_method_4_code
def yX19_puff : MethodName := ⟨RX19, "puff", "()I"⟩
def dkwX19_puff_0 : List UInt8 := [42, 183, 0, 13, 4, 100, 172]
abbrev dktX19_puff_0 : List UInt8 := dkwX19_puff_0 ++ []
theorem dksX19_puff_0 : cX19_puff.data.toList.drop 0 = dktX19_puff_0 := by decide +kernel
theorem dX19_puff_0 : decode cX19_puff 0 = .ok (.aload_n 0, 1) := dk_42 (dk_at dksX19_puff_0 0 rfl rfl)
theorem dX19_puff_1 : decode cX19_puff 1 = .ok (.invokespecial 13, 3) := dk_183 0 13 (dk_at dksX19_puff_0 1 rfl rfl)
theorem dX19_puff_4 : decode cX19_puff 4 = .ok (.iconst 1, 1) := dk_4 (dk_at dksX19_puff_0 4 rfl rfl)
theorem dX19_puff_5 : decode cX19_puff 5 = .ok (.isub, 1) := dk_100 (dk_at dksX19_puff_0 5 rfl rfl)
theorem dX19_puff_6 : decode cX19_puff 6 = .ok (.ireturn, 1) := dk_172 (dk_at dksX19_puff_0 6 rfl rfl)
abbrev cX19_hopping : ByteArray := prog_20_method_5_code
def yX19_hopping : MethodName := ⟨RX19, "hopping", "(ILInASackToTheRope$Trace;)I"⟩
def dkwX19_hopping_0 : List UInt8 := [44, 16, 70, 182, 0, 17, 42, 27, 44, 183, 0, 23, 5, 104, 172]
abbrev dktX19_hopping_0 : List UInt8 := dkwX19_hopping_0 ++ []
theorem dksX19_hopping_0 : cX19_hopping.data.toList.drop 0 = dktX19_hopping_0 := by decide +kernel
theorem dX19_hopping_0 : decode cX19_hopping 0 = .ok (.aload_n 2, 1) := dk_44 (dk_at dksX19_hopping_0 0 rfl rfl)
theorem dX19_hopping_1 : decode cX19_hopping 1 = .ok (.bipush 70, 2) := dk_16 70 (dk_at dksX19_hopping_0 1 rfl rfl)
theorem dX19_hopping_3 : decode cX19_hopping 3 = .ok (.invokevirtual 17, 3) := dk_182 0 17 (dk_at dksX19_hopping_0 3 rfl rfl)
theorem dX19_hopping_6 : decode cX19_hopping 6 = .ok (.aload_n 0, 1) := dk_42 (dk_at dksX19_hopping_0 6 rfl rfl)
theorem dX19_hopping_7 : decode cX19_hopping 7 = .ok (.iload_n 1, 1) := dk_27 (dk_at dksX19_hopping_0 7 rfl rfl)
theorem dX19_hopping_8 : decode cX19_hopping 8 = .ok (.aload_n 2, 1) := dk_44 (dk_at dksX19_hopping_0 8 rfl rfl)
theorem dX19_hopping_9 : decode cX19_hopping 9 = .ok (.invokespecial 23, 3) := dk_183 0 23 (dk_at dksX19_hopping_0 9 rfl rfl)
theorem dX19_hopping_12 : decode cX19_hopping 12 = .ok (.iconst 2, 1) := dk_5 (dk_at dksX19_hopping_0 12 rfl rfl)
theorem dX19_hopping_13 : decode cX19_hopping 13 = .ok (.imul, 1) := dk_104 (dk_at dksX19_hopping_0 13 rfl rfl)
theorem dX19_hopping_14 : decode cX19_hopping 14 = .ok (.ireturn, 1) := dk_172 (dk_at dksX19_hopping_0 14 rfl rfl)
abbrev cX19_falling : ByteArray := prog_20_method_6_code
def yX19_falling : MethodName := ⟨RX19, "falling", "(ILInASackToTheRope$Trace;)I"⟩
def dkwX19_falling_0 : List UInt8 := [44, 16, 71, 182, 0, 17, 42, 27, 42, 180, 0, 27, 100, 44, 183, 0, 33, 172]
abbrev dktX19_falling_0 : List UInt8 := dkwX19_falling_0 ++ []
theorem dksX19_falling_0 : cX19_falling.data.toList.drop 0 = dktX19_falling_0 := by decide +kernel
theorem dX19_falling_0 : decode cX19_falling 0 = .ok (.aload_n 2, 1) := dk_44 (dk_at dksX19_falling_0 0 rfl rfl)
theorem dX19_falling_1 : decode cX19_falling 1 = .ok (.bipush 71, 2) := dk_16 71 (dk_at dksX19_falling_0 1 rfl rfl)
theorem dX19_falling_3 : decode cX19_falling 3 = .ok (.invokevirtual 17, 3) := dk_182 0 17 (dk_at dksX19_falling_0 3 rfl rfl)
theorem dX19_falling_6 : decode cX19_falling 6 = .ok (.aload_n 0, 1) := dk_42 (dk_at dksX19_falling_0 6 rfl rfl)
theorem dX19_falling_7 : decode cX19_falling 7 = .ok (.iload_n 1, 1) := dk_27 (dk_at dksX19_falling_0 7 rfl rfl)
theorem dX19_falling_8 : decode cX19_falling 8 = .ok (.aload_n 0, 1) := dk_42 (dk_at dksX19_falling_0 8 rfl rfl)
theorem dX19_falling_9 : decode cX19_falling 9 = .ok (.getfield 27, 3) := dk_180 0 27 (dk_at dksX19_falling_0 9 rfl rfl)
theorem dX19_falling_12 : decode cX19_falling 12 = .ok (.isub, 1) := dk_100 (dk_at dksX19_falling_0 12 rfl rfl)
theorem dX19_falling_13 : decode cX19_falling 13 = .ok (.aload_n 2, 1) := dk_44 (dk_at dksX19_falling_0 13 rfl rfl)
theorem dX19_falling_14 : decode cX19_falling 14 = .ok (.invokespecial 33, 3) := dk_183 0 33 (dk_at dksX19_falling_0 14 rfl rfl)
theorem dX19_falling_17 : decode cX19_falling 17 = .ok (.ireturn, 1) := dk_172 (dk_at dksX19_falling_0 17 rfl rfl)
theorem q123 : (Jvm.Cond.initialized "InASackToTheRope$Tiptoe") ∈ lw_all := lw_g (lw_at lw_m1 30 rfl) rfl
theorem q734 : (Jvm.Cond.selects "InASackToTheRope$Tiptoe" ({ cls := "InASackToTheRope$Running", name := "free", desc := "(I)I" } : Jvm.MethodName) ({ cls := "InASackToTheRope$Tiptoe", name := "free", desc := "(I)I" } : Jvm.MethodName)) ∈ lw_all := lw_g (lw_at lw_m3 161 rfl) rfl
theorem q735 : (Jvm.Cond.instanceMethod ({ cls := "InASackToTheRope$Tiptoe", name := "free", desc := "(I)I" } : Jvm.MethodName)) ∈ lw_all := lw_g (lw_at lw_m3 162 rfl) rfl
theorem q736 : (Jvm.Cond.code ({ cls := "InASackToTheRope$Tiptoe", name := "free", desc := "(I)I" } : Jvm.MethodName) prog_20_method_3_code (2 : Nat) (Option.some Jvm.ClassFile.FieldType.int)) ∈ lw_all := lw_g (lw_at lw_m3 163 rfl) rfl
theorem q737 : (Jvm.Cond.methodLink "InASackToTheRope$Tiptoe" (9 : Nat) ({ cls := "InASackToTheRope$Running", name := "free", desc := "(I)I" } : Jvm.MethodName)) ∈ lw_all := lw_g (lw_at lw_m3 164 rfl) rfl
theorem q738 : (Jvm.Cond.superclass "InASackToTheRope$Tiptoe" "InASackToTheRope$Running") ∈ lw_all := lw_g (lw_at lw_m3 165 rfl) rfl
theorem q741 : (Jvm.Cond.selects "InASackToTheRope$Tiptoe" ({ cls := "InASackToTheRope$Hopper", name := "stride", desc := "(II)I" } : Jvm.MethodName) ({ cls := "InASackToTheRope$Running", name := "stride", desc := "(II)I" } : Jvm.MethodName)) ∈ lw_all := lw_g (lw_at lw_m3 168 rfl) rfl
theorem q768 : (Jvm.Cond.selects "InASackToTheRope$Tiptoe" ({ cls := "InASackToTheRope$Hopper", name := "risk", desc := "(III)I" } : Jvm.MethodName) ({ cls := "InASackToTheRope$Running", name := "risk", desc := "(III)I" } : Jvm.MethodName)) ∈ lw_all := lw_g (lw_at lw_m3 195 rfl) rfl
theorem q800 : (Jvm.Cond.sameField "InASackToTheRope$Tiptoe" "InASackToTheRope$Hopper" "index" "I") ∈ lw_all := lw_g (lw_at lw_m3 227 rfl) rfl
theorem q809 : (Jvm.Cond.fieldLink "InASackToTheRope$Tiptoe" (27 : Nat) "InASackToTheRope$Tiptoe" "by" "I") ∈ lw_all := lw_g (lw_at lw_m3 236 rfl) rfl
theorem q810 : (Jvm.Cond.sameField "InASackToTheRope$Tiptoe" "InASackToTheRope$Hopper" "by" "I") ∈ lw_all := lw_g (lw_at lw_m3 237 rfl) rfl
theorem q850 : (Jvm.Cond.instantiable "InASackToTheRope$Tiptoe" (2 : Nat)) ∈ lw_all := lw_g (lw_at lw_m4 37 rfl) rfl
theorem q852 : (Jvm.Cond.instanceMethod ({ cls := "InASackToTheRope$Tiptoe", name := "<init>", desc := "(II)V" } : Jvm.MethodName)) ∈ lw_all := lw_g (lw_at lw_m4 39 rfl) rfl
theorem q853 : (Jvm.Cond.code ({ cls := "InASackToTheRope$Tiptoe", name := "<init>", desc := "(II)V" } : Jvm.MethodName) prog_20_method_1_code (3 : Nat) (Option.none : Option Jvm.ClassFile.FieldType)) ∈ lw_all := lw_g (lw_at lw_m4 40 rfl) rfl
theorem q854 : (Jvm.Cond.methodLink "InASackToTheRope$Tiptoe" (3 : Nat) ({ cls := "InASackToTheRope$Running", name := "<init>", desc := "(II)V" } : Jvm.MethodName)) ∈ lw_all := lw_g (lw_at lw_m4 41 rfl) rfl
theorem q855 : (Jvm.Cond.laysFinal "InASackToTheRope$Tiptoe" "InASackToTheRope$Hopper" "index" "I") ∈ lw_all := lw_g (lw_at lw_m4 42 rfl) rfl
theorem q856 : (Jvm.Cond.laysFinal "InASackToTheRope$Tiptoe" "InASackToTheRope$Hopper" "by" "I") ∈ lw_all := lw_g (lw_at lw_m4 43 rfl) rfl
theorem q897 : (Jvm.Cond.selects "InASackToTheRope$Tiptoe" ({ cls := "InASackToTheRope$Hopper", name := "kind", desc := "()I" } : Jvm.MethodName) ({ cls := "InASackToTheRope$Tiptoe", name := "kind", desc := "()I" } : Jvm.MethodName)) ∈ lw_all := lw_g (lw_at lw_m4 84 rfl) rfl
theorem q898 : (Jvm.Cond.instanceMethod ({ cls := "InASackToTheRope$Tiptoe", name := "kind", desc := "()I" } : Jvm.MethodName)) ∈ lw_all := lw_g (lw_at lw_m4 85 rfl) rfl
theorem q899 : (Jvm.Cond.code ({ cls := "InASackToTheRope$Tiptoe", name := "kind", desc := "()I" } : Jvm.MethodName) prog_20_method_2_code (1 : Nat) (Option.some Jvm.ClassFile.FieldType.int)) ∈ lw_all := lw_g (lw_at lw_m4 86 rfl) rfl
theorem q912 : (Jvm.Cond.instanceMethod ({ cls := "InASackToTheRope$Tiptoe", name := "puff", desc := "()I" } : Jvm.MethodName)) ∈ lw_all := lw_g (lw_at lw_m4 99 rfl) rfl
theorem q913 : (Jvm.Cond.code ({ cls := "InASackToTheRope$Tiptoe", name := "puff", desc := "()I" } : Jvm.MethodName) prog_20_method_4_code (1 : Nat) (Option.some Jvm.ClassFile.FieldType.int)) ∈ lw_all := lw_g (lw_at lw_m4 100 rfl) rfl
theorem q914 : (Jvm.Cond.methodLink "InASackToTheRope$Tiptoe" (13 : Nat) ({ cls := "InASackToTheRope$Running", name := "puff", desc := "()I" } : Jvm.MethodName)) ∈ lw_all := lw_g (lw_at lw_m4 101 rfl) rfl
theorem q1396 : (Jvm.Cond.selects "InASackToTheRope$Tiptoe" ({ cls := "InASackToTheRope$Hopper", name := "hopping", desc := "(ILInASackToTheRope$Trace;)I" } : Jvm.MethodName) ({ cls := "InASackToTheRope$Tiptoe", name := "hopping", desc := "(ILInASackToTheRope$Trace;)I" } : Jvm.MethodName)) ∈ lw_all := lw_g (lw_at lw_m6 103 rfl) rfl
theorem q1397 : (Jvm.Cond.instanceMethod ({ cls := "InASackToTheRope$Tiptoe", name := "hopping", desc := "(ILInASackToTheRope$Trace;)I" } : Jvm.MethodName)) ∈ lw_all := lw_g (lw_at lw_m6 104 rfl) rfl
theorem q1398 : (Jvm.Cond.code ({ cls := "InASackToTheRope$Tiptoe", name := "hopping", desc := "(ILInASackToTheRope$Trace;)I" } : Jvm.MethodName) prog_20_method_5_code (3 : Nat) (Option.some Jvm.ClassFile.FieldType.int)) ∈ lw_all := lw_g (lw_at lw_m6 105 rfl) rfl
theorem q1399 : (Jvm.Cond.methodLink "InASackToTheRope$Tiptoe" (17 : Nat) ({ cls := "InASackToTheRope$Trace", name := "runs", desc := "(I)V" } : Jvm.MethodName)) ∈ lw_all := lw_g (lw_at lw_m6 106 rfl) rfl
theorem q1400 : (Jvm.Cond.methodLink "InASackToTheRope$Tiptoe" (23 : Nat) ({ cls := "InASackToTheRope$Running", name := "hopping", desc := "(ILInASackToTheRope$Trace;)I" } : Jvm.MethodName)) ∈ lw_all := lw_g (lw_at lw_m6 107 rfl) rfl
theorem q1422 : (Jvm.Cond.selects "InASackToTheRope$Tiptoe" ({ cls := "InASackToTheRope$Hopper", name := "falling", desc := "(ILInASackToTheRope$Trace;)I" } : Jvm.MethodName) ({ cls := "InASackToTheRope$Tiptoe", name := "falling", desc := "(ILInASackToTheRope$Trace;)I" } : Jvm.MethodName)) ∈ lw_all := lw_g (lw_at lw_m6 129 rfl) rfl
theorem q1423 : (Jvm.Cond.instanceMethod ({ cls := "InASackToTheRope$Tiptoe", name := "falling", desc := "(ILInASackToTheRope$Trace;)I" } : Jvm.MethodName)) ∈ lw_all := lw_g (lw_at lw_m6 130 rfl) rfl
theorem q1424 : (Jvm.Cond.code ({ cls := "InASackToTheRope$Tiptoe", name := "falling", desc := "(ILInASackToTheRope$Trace;)I" } : Jvm.MethodName) prog_20_method_6_code (3 : Nat) (Option.some Jvm.ClassFile.FieldType.int)) ∈ lw_all := lw_g (lw_at lw_m6 131 rfl) rfl
theorem q1425 : (Jvm.Cond.methodLink "InASackToTheRope$Tiptoe" (33 : Nat) ({ cls := "InASackToTheRope$Running", name := "falling", desc := "(ILInASackToTheRope$Trace;)I" } : Jvm.MethodName)) ∈ lw_all := lw_g (lw_at lw_m6 132 rfl) rfl
theorem q1447 : (Jvm.Cond.selects "InASackToTheRope$Tiptoe" ({ cls := "InASackToTheRope$Hopper", name := "rising", desc := "(ILInASackToTheRope$Trace;)I" } : Jvm.MethodName) ({ cls := "InASackToTheRope$Running", name := "rising", desc := "(ILInASackToTheRope$Trace;)I" } : Jvm.MethodName)) ∈ lw_all := lw_g (lw_at lw_m6 154 rfl) rfl
theorem q2042 : (Jvm.Cond.selects "InASackToTheRope$Tiptoe" ({ cls := "InASackToTheRope$Hopper", name := "puff", desc := "()I" } : Jvm.MethodName) ({ cls := "InASackToTheRope$Tiptoe", name := "puff", desc := "()I" } : Jvm.MethodName)) ∈ lw_all := lw_g (lw_at lw_m9 29 rfl) rfl
theorem q2055 : (Jvm.Cond.castable "InASackToTheRope$Tiptoe" "InASackToTheRope$Hopper") ∈ lw_tbl := lw_at lw_m9 42 rfl
theorem q2058 : (Jvm.Cond.castable "InASackToTheRope$Tiptoe" "InASackToTheRope$Running") ∈ lw_tbl := lw_at lw_m9 45 rfl
theorem in_X19 : ∀ w ∈ wsX190, w ∈ lw_all := lw_in wsX190 [855, 856] (by decide +kernel) (by decide +kernel)
/-! InASackToTheRope$Runner -/
set_option maxRecDepth 100000
def RX2 : String := "InASackToTheRope$Runner"
def TX2 : u_T := fun k => match k with
  | 0 => ("InASackToTheRope$Runner", "w", "LInASackToTheRope$Field;", false)
  | 1 => ("InASackToTheRope$Runner", "stride", "I", false)
  | 2 => ("InASackToTheRope$Runner", "puff", "I", false)
  | 3 => ("InASackToTheRope$Runner", "risk", "I", false)
  | 4 => ("InASackToTheRope$Runner", "late", "I", false)
  | 5 => ("InASackToTheRope$Runner", "at", "I", false)
  | 6 => ("InASackToTheRope$Runner", "breath", "I", false)
  | 7 => ("InASackToTheRope$Runner", "wobble", "I", false)
  | 8 => ("InASackToTheRope$Runner", "down", "I", false)
  | 9 => ("InASackToTheRope$Runner", "falls", "I", false)
  | 10 => ("InASackToTheRope$Runner", "wall", "I", false)
  | _ => ("InASackToTheRope$Runner", "seconds", "I", false)
def tyX2 : Nat → FieldType := fun k => match k with
  | 0 => .object "InASackToTheRope$Field"
  | 1 => .int
  | 2 => .int
  | 3 => .int
  | 4 => .int
  | 5 => .int
  | 6 => .int
  | 7 => .int
  | 8 => .int
  | 9 => .int
  | 10 => .int
  | _ => .int
abbrev wsX20 : List Cond := u_ws RX2 TX2 12
theorem nmX2 : ∀ a, a < 12 → ∀ b, b < 12 → a ≠ b → (TX2 a).2.1 ≠ (TX2 b).2.1 := by decide +kernel
theorem tyX2_ok : ∀ k, k < 12 → parseFieldDescriptor (TX2 k).2.2.1 = some (tyX2 k) := by decide +kernel
abbrev cX2_init : ByteArray := prog_16_method_1_code
def yX2_init : MethodName := ⟨RX2, "<init>", "()V"⟩
theorem dX2_init_0 : decode cX2_init 0 = .ok (.aload_n 0, 1) := by decide +kernel
theorem dX2_init_1 : decode cX2_init 1 = .ok (.invokespecial 3, 3) := by decide +kernel
theorem dX2_init_4 : decode cX2_init 4 = .ok (.return_, 1) := by decide +kernel
abbrev cX2_of : ByteArray := prog_16_method_4_code
def yX2_of : MethodName := ⟨RX2, "of", "(LInASackToTheRope$Field;I)LInASackToTheRope$Runner;"⟩
def dkwX2_of_0 : List UInt8 := [42, 43, 43, 180, 0, 88, 28, 50, 28, 43, 180, 0, 92, 28, 46, 182, 0, 95, 176]
abbrev dktX2_of_0 : List UInt8 := dkwX2_of_0 ++ []
theorem dksX2_of_0 : cX2_of.data.toList.drop 0 = dktX2_of_0 := by decide +kernel
theorem dX2_of_0 : decode cX2_of 0 = .ok (.aload_n 0, 1) := dk_42 (dk_at dksX2_of_0 0 rfl rfl)
theorem dX2_of_1 : decode cX2_of 1 = .ok (.aload_n 1, 1) := dk_43 (dk_at dksX2_of_0 1 rfl rfl)
theorem dX2_of_2 : decode cX2_of 2 = .ok (.aload_n 1, 1) := dk_43 (dk_at dksX2_of_0 2 rfl rfl)
theorem dX2_of_3 : decode cX2_of 3 = .ok (.getfield 88, 3) := dk_180 0 88 (dk_at dksX2_of_0 3 rfl rfl)
theorem dX2_of_6 : decode cX2_of 6 = .ok (.iload_n 2, 1) := dk_28 (dk_at dksX2_of_0 6 rfl rfl)
theorem dX2_of_7 : decode cX2_of 7 = .ok (.aaload, 1) := dk_50 (dk_at dksX2_of_0 7 rfl rfl)
theorem dX2_of_8 : decode cX2_of 8 = .ok (.iload_n 2, 1) := dk_28 (dk_at dksX2_of_0 8 rfl rfl)
theorem dX2_of_9 : decode cX2_of 9 = .ok (.aload_n 1, 1) := dk_43 (dk_at dksX2_of_0 9 rfl rfl)
theorem dX2_of_10 : decode cX2_of 10 = .ok (.getfield 92, 3) := dk_180 0 92 (dk_at dksX2_of_0 10 rfl rfl)
theorem dX2_of_13 : decode cX2_of 13 = .ok (.iload_n 2, 1) := dk_28 (dk_at dksX2_of_0 13 rfl rfl)
theorem dX2_of_14 : decode cX2_of 14 = .ok (.iaload, 1) := dk_46 (dk_at dksX2_of_0 14 rfl rfl)
theorem dX2_of_15 : decode cX2_of 15 = .ok (.invokevirtual 95, 3) := dk_182 0 95 (dk_at dksX2_of_0 15 rfl rfl)
theorem dX2_of_18 : decode cX2_of 18 = .ok (.areturn, 1) := dk_176 (dk_at dksX2_of_0 18 rfl rfl)
abbrev cX2_ofKind : ByteArray := prog_16_method_3_code
def yX2_ofKind : MethodName := ⟨RX2, "ofKind", "(LInASackToTheRope$Field;LInASackToTheRope$Hopper;II)LInASackToTheRope$Runner;"⟩
def dkwX2_ofKind_1 : List UInt8 := [182, 0, 77, 43, 180, 0, 81, 29, 46, 182, 0, 84, 176]
abbrev dktX2_ofKind_1 : List UInt8 := dkwX2_ofKind_1 ++ []
def dkwX2_ofKind_0 : List UInt8 := [42, 43, 44, 43, 180, 0, 71, 29, 46, 43, 43, 180, 0, 71, 29, 46, 21, 4, 182, 0, 74, 43, 21, 4]
abbrev dktX2_ofKind_0 : List UInt8 := dkwX2_ofKind_0 ++ dktX2_ofKind_1
theorem dksX2_ofKind_0 : cX2_ofKind.data.toList.drop 0 = dktX2_ofKind_0 := by decide +kernel
theorem dksX2_ofKind_1 : cX2_ofKind.data.toList.drop 24 = dktX2_ofKind_1 := dk_seg dksX2_ofKind_0 24 rfl rfl
theorem dX2_ofKind_0 : decode cX2_ofKind 0 = .ok (.aload_n 0, 1) := dk_42 (dk_at dksX2_ofKind_0 0 rfl rfl)
theorem dX2_ofKind_1 : decode cX2_ofKind 1 = .ok (.aload_n 1, 1) := dk_43 (dk_at dksX2_ofKind_0 1 rfl rfl)
theorem dX2_ofKind_2 : decode cX2_ofKind 2 = .ok (.aload_n 2, 1) := dk_44 (dk_at dksX2_ofKind_0 2 rfl rfl)
theorem dX2_ofKind_3 : decode cX2_ofKind 3 = .ok (.aload_n 1, 1) := dk_43 (dk_at dksX2_ofKind_0 3 rfl rfl)
theorem dX2_ofKind_4 : decode cX2_ofKind 4 = .ok (.getfield 71, 3) := dk_180 0 71 (dk_at dksX2_ofKind_0 4 rfl rfl)
theorem dX2_ofKind_7 : decode cX2_ofKind 7 = .ok (.iload_n 3, 1) := dk_29 (dk_at dksX2_ofKind_0 7 rfl rfl)
theorem dX2_ofKind_8 : decode cX2_ofKind 8 = .ok (.iaload, 1) := dk_46 (dk_at dksX2_ofKind_0 8 rfl rfl)
theorem dX2_ofKind_9 : decode cX2_ofKind 9 = .ok (.aload_n 1, 1) := dk_43 (dk_at dksX2_ofKind_0 9 rfl rfl)
theorem dX2_ofKind_10 : decode cX2_ofKind 10 = .ok (.aload_n 1, 1) := dk_43 (dk_at dksX2_ofKind_0 10 rfl rfl)
theorem dX2_ofKind_11 : decode cX2_ofKind 11 = .ok (.getfield 71, 3) := dk_180 0 71 (dk_at dksX2_ofKind_0 11 rfl rfl)
theorem dX2_ofKind_14 : decode cX2_ofKind 14 = .ok (.iload_n 3, 1) := dk_29 (dk_at dksX2_ofKind_0 14 rfl rfl)
theorem dX2_ofKind_15 : decode cX2_ofKind 15 = .ok (.iaload, 1) := dk_46 (dk_at dksX2_ofKind_0 15 rfl rfl)
theorem dX2_ofKind_16 : decode cX2_ofKind 16 = .ok (.iload 4, 2) := dk_21 4 (dk_at dksX2_ofKind_0 16 rfl rfl)
theorem dX2_ofKind_18 : decode cX2_ofKind 18 = .ok (.invokevirtual 74, 3) := dk_182 0 74 (dk_at dksX2_ofKind_0 18 rfl rfl)
theorem dX2_ofKind_21 : decode cX2_ofKind 21 = .ok (.aload_n 1, 1) := dk_43 (dk_at dksX2_ofKind_0 21 rfl rfl)
theorem dX2_ofKind_22 : decode cX2_ofKind 22 = .ok (.iload 4, 2) := dk_21 4 (dk_at dksX2_ofKind_0 22 rfl rfl)
theorem dX2_ofKind_24 : decode cX2_ofKind 24 = .ok (.invokevirtual 77, 3) := dk_182 0 77 (dk_at dksX2_ofKind_1 0 rfl rfl)
theorem dX2_ofKind_27 : decode cX2_ofKind 27 = .ok (.aload_n 1, 1) := dk_43 (dk_at dksX2_ofKind_1 3 rfl rfl)
theorem dX2_ofKind_28 : decode cX2_ofKind 28 = .ok (.getfield 81, 3) := dk_180 0 81 (dk_at dksX2_ofKind_1 4 rfl rfl)
theorem dX2_ofKind_31 : decode cX2_ofKind 31 = .ok (.iload_n 3, 1) := dk_29 (dk_at dksX2_ofKind_1 7 rfl rfl)
theorem dX2_ofKind_32 : decode cX2_ofKind 32 = .ok (.iaload, 1) := dk_46 (dk_at dksX2_ofKind_1 8 rfl rfl)
theorem dX2_ofKind_33 : decode cX2_ofKind 33 = .ok (.invokevirtual 84, 3) := dk_182 0 84 (dk_at dksX2_ofKind_1 9 rfl rfl)
theorem dX2_ofKind_36 : decode cX2_ofKind 36 = .ok (.areturn, 1) := dk_176 (dk_at dksX2_ofKind_1 12 rfl rfl)
abbrev cX2_begins : ByteArray := prog_16_method_2_code
def yX2_begins : MethodName := ⟨RX2, "begins", "(LInASackToTheRope$Field;LInASackToTheRope$Hopper;IIII)LInASackToTheRope$Runner;"⟩
def dkwX2_begins_4 : List UInt8 := [176]
abbrev dktX2_begins_4 : List UInt8 := dkwX2_begins_4 ++ []
def dkwX2_begins_3 : List UInt8 := [181, 0, 56, 42, 3, 181, 0, 59, 42, 3, 181, 0, 62, 42, 2, 181, 0, 65, 42, 3, 181, 0, 68, 42]
abbrev dktX2_begins_3 : List UInt8 := dkwX2_begins_3 ++ dktX2_begins_4
def dkwX2_begins_2 : List UInt8 := [184, 0, 42, 181, 0, 47, 42, 21, 6, 181, 0, 50, 42, 43, 180, 0, 36, 6, 46, 181, 0, 53, 42, 3]
abbrev dktX2_begins_2 : List UInt8 := dkwX2_begins_2 ++ dktX2_begins_3
def dkwX2_begins_1 : List UInt8 := [42, 44, 29, 21, 4, 21, 5, 182, 0, 30, 181, 0, 34, 42, 3, 43, 180, 0, 36, 5, 46, 29, 100]
abbrev dktX2_begins_1 : List UInt8 := dkwX2_begins_1 ++ dktX2_begins_2
def dkwX2_begins_0 : List UInt8 := [42, 43, 181, 0, 9, 42, 44, 29, 21, 4, 182, 0, 15, 181, 0, 21, 42, 44, 182, 0, 24, 181, 0, 28]
abbrev dktX2_begins_0 : List UInt8 := dkwX2_begins_0 ++ dktX2_begins_1
theorem dksX2_begins_0 : cX2_begins.data.toList.drop 0 = dktX2_begins_0 := by decide +kernel
theorem dksX2_begins_1 : cX2_begins.data.toList.drop 24 = dktX2_begins_1 := dk_seg dksX2_begins_0 24 rfl rfl
theorem dksX2_begins_2 : cX2_begins.data.toList.drop 47 = dktX2_begins_2 := dk_seg dksX2_begins_1 23 rfl rfl
theorem dksX2_begins_3 : cX2_begins.data.toList.drop 71 = dktX2_begins_3 := dk_seg dksX2_begins_2 24 rfl rfl
theorem dksX2_begins_4 : cX2_begins.data.toList.drop 95 = dktX2_begins_4 := dk_seg dksX2_begins_3 24 rfl rfl
theorem dX2_begins_0 : decode cX2_begins 0 = .ok (.aload_n 0, 1) := dk_42 (dk_at dksX2_begins_0 0 rfl rfl)
theorem dX2_begins_1 : decode cX2_begins 1 = .ok (.aload_n 1, 1) := dk_43 (dk_at dksX2_begins_0 1 rfl rfl)
theorem dX2_begins_2 : decode cX2_begins 2 = .ok (.putfield 9, 3) := dk_181 0 9 (dk_at dksX2_begins_0 2 rfl rfl)
theorem dX2_begins_5 : decode cX2_begins 5 = .ok (.aload_n 0, 1) := dk_42 (dk_at dksX2_begins_0 5 rfl rfl)
theorem dX2_begins_6 : decode cX2_begins 6 = .ok (.aload_n 2, 1) := dk_44 (dk_at dksX2_begins_0 6 rfl rfl)
theorem dX2_begins_7 : decode cX2_begins 7 = .ok (.iload_n 3, 1) := dk_29 (dk_at dksX2_begins_0 7 rfl rfl)
theorem dX2_begins_8 : decode cX2_begins 8 = .ok (.iload 4, 2) := dk_21 4 (dk_at dksX2_begins_0 8 rfl rfl)
theorem dX2_begins_10 : decode cX2_begins 10 = .ok (.invokevirtual 15, 3) := dk_182 0 15 (dk_at dksX2_begins_0 10 rfl rfl)
theorem dX2_begins_13 : decode cX2_begins 13 = .ok (.putfield 21, 3) := dk_181 0 21 (dk_at dksX2_begins_0 13 rfl rfl)
theorem dX2_begins_16 : decode cX2_begins 16 = .ok (.aload_n 0, 1) := dk_42 (dk_at dksX2_begins_0 16 rfl rfl)
theorem dX2_begins_17 : decode cX2_begins 17 = .ok (.aload_n 2, 1) := dk_44 (dk_at dksX2_begins_0 17 rfl rfl)
theorem dX2_begins_18 : decode cX2_begins 18 = .ok (.invokevirtual 24, 3) := dk_182 0 24 (dk_at dksX2_begins_0 18 rfl rfl)
theorem dX2_begins_21 : decode cX2_begins 21 = .ok (.putfield 28, 3) := dk_181 0 28 (dk_at dksX2_begins_0 21 rfl rfl)
theorem dX2_begins_24 : decode cX2_begins 24 = .ok (.aload_n 0, 1) := dk_42 (dk_at dksX2_begins_1 0 rfl rfl)
theorem dX2_begins_25 : decode cX2_begins 25 = .ok (.aload_n 2, 1) := dk_44 (dk_at dksX2_begins_1 1 rfl rfl)
theorem dX2_begins_26 : decode cX2_begins 26 = .ok (.iload_n 3, 1) := dk_29 (dk_at dksX2_begins_1 2 rfl rfl)
theorem dX2_begins_27 : decode cX2_begins 27 = .ok (.iload 4, 2) := dk_21 4 (dk_at dksX2_begins_1 3 rfl rfl)
theorem dX2_begins_29 : decode cX2_begins 29 = .ok (.iload 5, 2) := dk_21 5 (dk_at dksX2_begins_1 5 rfl rfl)
theorem dX2_begins_31 : decode cX2_begins 31 = .ok (.invokevirtual 30, 3) := dk_182 0 30 (dk_at dksX2_begins_1 7 rfl rfl)
theorem dX2_begins_34 : decode cX2_begins 34 = .ok (.putfield 34, 3) := dk_181 0 34 (dk_at dksX2_begins_1 10 rfl rfl)
theorem dX2_begins_37 : decode cX2_begins 37 = .ok (.aload_n 0, 1) := dk_42 (dk_at dksX2_begins_1 13 rfl rfl)
theorem dX2_begins_38 : decode cX2_begins 38 = .ok (.iconst 0, 1) := dk_3 (dk_at dksX2_begins_1 14 rfl rfl)
theorem dX2_begins_39 : decode cX2_begins 39 = .ok (.aload_n 1, 1) := dk_43 (dk_at dksX2_begins_1 15 rfl rfl)
theorem dX2_begins_40 : decode cX2_begins 40 = .ok (.getfield 36, 3) := dk_180 0 36 (dk_at dksX2_begins_1 16 rfl rfl)
theorem dX2_begins_43 : decode cX2_begins 43 = .ok (.iconst 2, 1) := dk_5 (dk_at dksX2_begins_1 19 rfl rfl)
theorem dX2_begins_44 : decode cX2_begins 44 = .ok (.iaload, 1) := dk_46 (dk_at dksX2_begins_1 20 rfl rfl)
theorem dX2_begins_45 : decode cX2_begins 45 = .ok (.iload_n 3, 1) := dk_29 (dk_at dksX2_begins_1 21 rfl rfl)
theorem dX2_begins_46 : decode cX2_begins 46 = .ok (.isub, 1) := dk_100 (dk_at dksX2_begins_1 22 rfl rfl)
theorem dX2_begins_47 : decode cX2_begins 47 = .ok (.invokestatic 42, 3) := dk_184 0 42 (dk_at dksX2_begins_2 0 rfl rfl)
theorem dX2_begins_50 : decode cX2_begins 50 = .ok (.putfield 47, 3) := dk_181 0 47 (dk_at dksX2_begins_2 3 rfl rfl)
theorem dX2_begins_53 : decode cX2_begins 53 = .ok (.aload_n 0, 1) := dk_42 (dk_at dksX2_begins_2 6 rfl rfl)
theorem dX2_begins_54 : decode cX2_begins 54 = .ok (.iload 6, 2) := dk_21 6 (dk_at dksX2_begins_2 7 rfl rfl)
theorem dX2_begins_56 : decode cX2_begins 56 = .ok (.putfield 50, 3) := dk_181 0 50 (dk_at dksX2_begins_2 9 rfl rfl)
theorem dX2_begins_59 : decode cX2_begins 59 = .ok (.aload_n 0, 1) := dk_42 (dk_at dksX2_begins_2 12 rfl rfl)
theorem dX2_begins_60 : decode cX2_begins 60 = .ok (.aload_n 1, 1) := dk_43 (dk_at dksX2_begins_2 13 rfl rfl)
theorem dX2_begins_61 : decode cX2_begins 61 = .ok (.getfield 36, 3) := dk_180 0 36 (dk_at dksX2_begins_2 14 rfl rfl)
theorem dX2_begins_64 : decode cX2_begins 64 = .ok (.iconst 3, 1) := dk_6 (dk_at dksX2_begins_2 17 rfl rfl)
theorem dX2_begins_65 : decode cX2_begins 65 = .ok (.iaload, 1) := dk_46 (dk_at dksX2_begins_2 18 rfl rfl)
theorem dX2_begins_66 : decode cX2_begins 66 = .ok (.putfield 53, 3) := dk_181 0 53 (dk_at dksX2_begins_2 19 rfl rfl)
theorem dX2_begins_69 : decode cX2_begins 69 = .ok (.aload_n 0, 1) := dk_42 (dk_at dksX2_begins_2 22 rfl rfl)
theorem dX2_begins_70 : decode cX2_begins 70 = .ok (.iconst 0, 1) := dk_3 (dk_at dksX2_begins_2 23 rfl rfl)
theorem dX2_begins_71 : decode cX2_begins 71 = .ok (.putfield 56, 3) := dk_181 0 56 (dk_at dksX2_begins_3 0 rfl rfl)
theorem dX2_begins_74 : decode cX2_begins 74 = .ok (.aload_n 0, 1) := dk_42 (dk_at dksX2_begins_3 3 rfl rfl)
theorem dX2_begins_75 : decode cX2_begins 75 = .ok (.iconst 0, 1) := dk_3 (dk_at dksX2_begins_3 4 rfl rfl)
theorem dX2_begins_76 : decode cX2_begins 76 = .ok (.putfield 59, 3) := dk_181 0 59 (dk_at dksX2_begins_3 5 rfl rfl)
theorem dX2_begins_79 : decode cX2_begins 79 = .ok (.aload_n 0, 1) := dk_42 (dk_at dksX2_begins_3 8 rfl rfl)
theorem dX2_begins_80 : decode cX2_begins 80 = .ok (.iconst 0, 1) := dk_3 (dk_at dksX2_begins_3 9 rfl rfl)
theorem dX2_begins_81 : decode cX2_begins 81 = .ok (.putfield 62, 3) := dk_181 0 62 (dk_at dksX2_begins_3 10 rfl rfl)
theorem dX2_begins_84 : decode cX2_begins 84 = .ok (.aload_n 0, 1) := dk_42 (dk_at dksX2_begins_3 13 rfl rfl)
theorem dX2_begins_85 : decode cX2_begins 85 = .ok (.iconst (-1), 1) := dk_2 (dk_at dksX2_begins_3 14 rfl rfl)
theorem dX2_begins_86 : decode cX2_begins 86 = .ok (.putfield 65, 3) := dk_181 0 65 (dk_at dksX2_begins_3 15 rfl rfl)
theorem dX2_begins_89 : decode cX2_begins 89 = .ok (.aload_n 0, 1) := dk_42 (dk_at dksX2_begins_3 18 rfl rfl)
theorem dX2_begins_90 : decode cX2_begins 90 = .ok (.iconst 0, 1) := dk_3 (dk_at dksX2_begins_3 19 rfl rfl)
theorem dX2_begins_91 : decode cX2_begins 91 = .ok (.putfield 68, 3) := dk_181 0 68 (dk_at dksX2_begins_3 20 rfl rfl)
theorem dX2_begins_94 : decode cX2_begins 94 = .ok (.aload_n 0, 1) := dk_42 (dk_at dksX2_begins_3 23 rfl rfl)
theorem dX2_begins_95 : decode cX2_begins 95 = .ok (.areturn, 1) := dk_176 (dk_at dksX2_begins_4 0 rfl rfl)
abbrev cX2_passesMany : ByteArray := prog_16_method_14_code
def yX2_passesMany : MethodName := ⟨RX2, "passesMany", "(I)LInASackToTheRope$Runner;"⟩
def dkwX2_passesMany_1 : List UInt8 := [42, 176]
abbrev dktX2_passesMany_1 : List UInt8 := dkwX2_passesMany_1 ++ []
def dkwX2_passesMany_0 : List UInt8 := [3, 61, 28, 27, 162, 0, 20, 42, 182, 0, 129, 154, 0, 13, 42, 182, 0, 133, 132, 2, 1, 167, 255, 237]
abbrev dktX2_passesMany_0 : List UInt8 := dkwX2_passesMany_0 ++ dktX2_passesMany_1
theorem dksX2_passesMany_0 : cX2_passesMany.data.toList.drop 0 = dktX2_passesMany_0 := by decide +kernel
theorem dksX2_passesMany_1 : cX2_passesMany.data.toList.drop 24 = dktX2_passesMany_1 := dk_seg dksX2_passesMany_0 24 rfl rfl
theorem dX2_passesMany_0 : decode cX2_passesMany 0 = .ok (.iconst 0, 1) := dk_3 (dk_at dksX2_passesMany_0 0 rfl rfl)
theorem dX2_passesMany_1 : decode cX2_passesMany 1 = .ok (.istore_n 2, 1) := dk_61 (dk_at dksX2_passesMany_0 1 rfl rfl)
theorem dX2_passesMany_2 : decode cX2_passesMany 2 = .ok (.iload_n 2, 1) := dk_28 (dk_at dksX2_passesMany_0 2 rfl rfl)
theorem dX2_passesMany_3 : decode cX2_passesMany 3 = .ok (.iload_n 1, 1) := dk_27 (dk_at dksX2_passesMany_0 3 rfl rfl)
theorem dX2_passesMany_4 : decode cX2_passesMany 4 = .ok (.if_icmp .ge 20, 3) := dk_162 0 20 (dk_at dksX2_passesMany_0 4 rfl rfl)
theorem dX2_passesMany_7 : decode cX2_passesMany 7 = .ok (.aload_n 0, 1) := dk_42 (dk_at dksX2_passesMany_0 7 rfl rfl)
theorem dX2_passesMany_8 : decode cX2_passesMany 8 = .ok (.invokevirtual 129, 3) := dk_182 0 129 (dk_at dksX2_passesMany_0 8 rfl rfl)
theorem dX2_passesMany_11 : decode cX2_passesMany 11 = .ok (.ifCond .ne 13, 3) := dk_154 0 13 (dk_at dksX2_passesMany_0 11 rfl rfl)
theorem dX2_passesMany_14 : decode cX2_passesMany 14 = .ok (.aload_n 0, 1) := dk_42 (dk_at dksX2_passesMany_0 14 rfl rfl)
theorem dX2_passesMany_15 : decode cX2_passesMany 15 = .ok (.invokevirtual 133, 3) := dk_182 0 133 (dk_at dksX2_passesMany_0 15 rfl rfl)
theorem dX2_passesMany_18 : decode cX2_passesMany 18 = .ok (.iinc 2 1, 3) := dk_132 2 1 (dk_at dksX2_passesMany_0 18 rfl rfl)
theorem dX2_passesMany_21 : decode cX2_passesMany 21 = .ok (.goto (-19), 3) := dk_167 255 237 (dk_at dksX2_passesMany_0 21 rfl rfl)
theorem dX2_passesMany_24 : decode cX2_passesMany 24 = .ok (.aload_n 0, 1) := dk_42 (dk_at dksX2_passesMany_1 0 rfl rfl)
theorem dX2_passesMany_25 : decode cX2_passesMany 25 = .ok (.areturn, 1) := dk_176 (dk_at dksX2_passesMany_1 1 rfl rfl)
abbrev cX2_isThere : ByteArray := prog_16_method_6_code
def yX2_isThere : MethodName := ⟨RX2, "isThere", "()Z"⟩
def dkwX2_isThere_0 : List UInt8 := [42, 180, 0, 50, 42, 180, 0, 9, 180, 0, 36, 3, 46, 161, 0, 7, 4, 167, 0, 4, 3, 172]
abbrev dktX2_isThere_0 : List UInt8 := dkwX2_isThere_0 ++ []
theorem dksX2_isThere_0 : cX2_isThere.data.toList.drop 0 = dktX2_isThere_0 := by decide +kernel
theorem dX2_isThere_0 : decode cX2_isThere 0 = .ok (.aload_n 0, 1) := dk_42 (dk_at dksX2_isThere_0 0 rfl rfl)
theorem dX2_isThere_1 : decode cX2_isThere 1 = .ok (.getfield 50, 3) := dk_180 0 50 (dk_at dksX2_isThere_0 1 rfl rfl)
theorem dX2_isThere_4 : decode cX2_isThere 4 = .ok (.aload_n 0, 1) := dk_42 (dk_at dksX2_isThere_0 4 rfl rfl)
theorem dX2_isThere_5 : decode cX2_isThere 5 = .ok (.getfield 9, 3) := dk_180 0 9 (dk_at dksX2_isThere_0 5 rfl rfl)
theorem dX2_isThere_8 : decode cX2_isThere 8 = .ok (.getfield 36, 3) := dk_180 0 36 (dk_at dksX2_isThere_0 8 rfl rfl)
theorem dX2_isThere_11 : decode cX2_isThere 11 = .ok (.iconst 0, 1) := dk_3 (dk_at dksX2_isThere_0 11 rfl rfl)
theorem dX2_isThere_12 : decode cX2_isThere 12 = .ok (.iaload, 1) := dk_46 (dk_at dksX2_isThere_0 12 rfl rfl)
theorem dX2_isThere_13 : decode cX2_isThere 13 = .ok (.if_icmp .lt 7, 3) := dk_161 0 7 (dk_at dksX2_isThere_0 13 rfl rfl)
theorem dX2_isThere_16 : decode cX2_isThere 16 = .ok (.iconst 1, 1) := dk_4 (dk_at dksX2_isThere_0 16 rfl rfl)
theorem dX2_isThere_17 : decode cX2_isThere 17 = .ok (.goto 4, 3) := dk_167 0 4 (dk_at dksX2_isThere_0 17 rfl rfl)
theorem dX2_isThere_20 : decode cX2_isThere 20 = .ok (.iconst 0, 1) := dk_3 (dk_at dksX2_isThere_0 20 rfl rfl)
theorem dX2_isThere_21 : decode cX2_isThere 21 = .ok (.ireturn, 1) := dk_172 (dk_at dksX2_isThere_0 21 rfl rfl)
abbrev cX2_passes : ByteArray := prog_16_method_12_code
def yX2_passes : MethodName := ⟨RX2, "passes", "()V"⟩
def dkwX2_passes_3 : List UInt8 := [181, 0, 56, 42, 27, 182, 0, 122, 177]
abbrev dktX2_passes_3 : List UInt8 := dkwX2_passes_3 ++ []
def dkwX2_passes_2 : List UInt8 := [4, 167, 0, 4, 3, 60, 42, 89, 180, 0, 56, 27, 153, 0, 8, 16, 100, 167, 0, 4, 3, 100]
abbrev dktX2_passes_2 : List UInt8 := dkwX2_passes_2 ++ dktX2_passes_3
def dkwX2_passes_1 : List UInt8 := [180, 0, 56, 42, 182, 0, 116, 96, 181, 0, 56, 42, 182, 0, 119, 42, 180, 0, 56, 16, 100, 161, 0, 7]
abbrev dktX2_passes_1 : List UInt8 := dkwX2_passes_1 ++ dktX2_passes_2
def dkwX2_passes_0 : List UInt8 := [42, 89, 180, 0, 68, 4, 96, 181, 0, 68, 42, 180, 0, 59, 158, 0, 8, 42, 182, 0, 113, 177, 42, 89]
abbrev dktX2_passes_0 : List UInt8 := dkwX2_passes_0 ++ dktX2_passes_1
theorem dksX2_passes_0 : cX2_passes.data.toList.drop 0 = dktX2_passes_0 := by decide +kernel
theorem dksX2_passes_1 : cX2_passes.data.toList.drop 24 = dktX2_passes_1 := dk_seg dksX2_passes_0 24 rfl rfl
theorem dksX2_passes_2 : cX2_passes.data.toList.drop 48 = dktX2_passes_2 := dk_seg dksX2_passes_1 24 rfl rfl
theorem dksX2_passes_3 : cX2_passes.data.toList.drop 70 = dktX2_passes_3 := dk_seg dksX2_passes_2 22 rfl rfl
theorem dX2_passes_0 : decode cX2_passes 0 = .ok (.aload_n 0, 1) := dk_42 (dk_at dksX2_passes_0 0 rfl rfl)
theorem dX2_passes_1 : decode cX2_passes 1 = .ok (.dup, 1) := dk_89 (dk_at dksX2_passes_0 1 rfl rfl)
theorem dX2_passes_2 : decode cX2_passes 2 = .ok (.getfield 68, 3) := dk_180 0 68 (dk_at dksX2_passes_0 2 rfl rfl)
theorem dX2_passes_5 : decode cX2_passes 5 = .ok (.iconst 1, 1) := dk_4 (dk_at dksX2_passes_0 5 rfl rfl)
theorem dX2_passes_6 : decode cX2_passes 6 = .ok (.iadd, 1) := dk_96 (dk_at dksX2_passes_0 6 rfl rfl)
theorem dX2_passes_7 : decode cX2_passes 7 = .ok (.putfield 68, 3) := dk_181 0 68 (dk_at dksX2_passes_0 7 rfl rfl)
theorem dX2_passes_10 : decode cX2_passes 10 = .ok (.aload_n 0, 1) := dk_42 (dk_at dksX2_passes_0 10 rfl rfl)
theorem dX2_passes_11 : decode cX2_passes 11 = .ok (.getfield 59, 3) := dk_180 0 59 (dk_at dksX2_passes_0 11 rfl rfl)
theorem dX2_passes_14 : decode cX2_passes 14 = .ok (.ifCond .le 8, 3) := dk_158 0 8 (dk_at dksX2_passes_0 14 rfl rfl)
theorem dX2_passes_17 : decode cX2_passes 17 = .ok (.aload_n 0, 1) := dk_42 (dk_at dksX2_passes_0 17 rfl rfl)
theorem dX2_passes_18 : decode cX2_passes 18 = .ok (.invokevirtual 113, 3) := dk_182 0 113 (dk_at dksX2_passes_0 18 rfl rfl)
theorem dX2_passes_21 : decode cX2_passes 21 = .ok (.return_, 1) := dk_177 (dk_at dksX2_passes_0 21 rfl rfl)
theorem dX2_passes_22 : decode cX2_passes 22 = .ok (.aload_n 0, 1) := dk_42 (dk_at dksX2_passes_0 22 rfl rfl)
theorem dX2_passes_23 : decode cX2_passes 23 = .ok (.dup, 1) := dk_89 (dk_at dksX2_passes_0 23 rfl rfl)
theorem dX2_passes_24 : decode cX2_passes 24 = .ok (.getfield 56, 3) := dk_180 0 56 (dk_at dksX2_passes_1 0 rfl rfl)
theorem dX2_passes_27 : decode cX2_passes 27 = .ok (.aload_n 0, 1) := dk_42 (dk_at dksX2_passes_1 3 rfl rfl)
theorem dX2_passes_28 : decode cX2_passes 28 = .ok (.invokevirtual 116, 3) := dk_182 0 116 (dk_at dksX2_passes_1 4 rfl rfl)
theorem dX2_passes_31 : decode cX2_passes 31 = .ok (.iadd, 1) := dk_96 (dk_at dksX2_passes_1 7 rfl rfl)
theorem dX2_passes_32 : decode cX2_passes 32 = .ok (.putfield 56, 3) := dk_181 0 56 (dk_at dksX2_passes_1 8 rfl rfl)
theorem dX2_passes_35 : decode cX2_passes 35 = .ok (.aload_n 0, 1) := dk_42 (dk_at dksX2_passes_1 11 rfl rfl)
theorem dX2_passes_36 : decode cX2_passes 36 = .ok (.invokevirtual 119, 3) := dk_182 0 119 (dk_at dksX2_passes_1 12 rfl rfl)
theorem dX2_passes_39 : decode cX2_passes 39 = .ok (.aload_n 0, 1) := dk_42 (dk_at dksX2_passes_1 15 rfl rfl)
theorem dX2_passes_40 : decode cX2_passes 40 = .ok (.getfield 56, 3) := dk_180 0 56 (dk_at dksX2_passes_1 16 rfl rfl)
theorem dX2_passes_43 : decode cX2_passes 43 = .ok (.bipush 100, 2) := dk_16 100 (dk_at dksX2_passes_1 19 rfl rfl)
theorem dX2_passes_45 : decode cX2_passes 45 = .ok (.if_icmp .lt 7, 3) := dk_161 0 7 (dk_at dksX2_passes_1 21 rfl rfl)
theorem dX2_passes_48 : decode cX2_passes 48 = .ok (.iconst 1, 1) := dk_4 (dk_at dksX2_passes_2 0 rfl rfl)
theorem dX2_passes_49 : decode cX2_passes 49 = .ok (.goto 4, 3) := dk_167 0 4 (dk_at dksX2_passes_2 1 rfl rfl)
theorem dX2_passes_52 : decode cX2_passes 52 = .ok (.iconst 0, 1) := dk_3 (dk_at dksX2_passes_2 4 rfl rfl)
theorem dX2_passes_53 : decode cX2_passes 53 = .ok (.istore_n 1, 1) := dk_60 (dk_at dksX2_passes_2 5 rfl rfl)
theorem dX2_passes_54 : decode cX2_passes 54 = .ok (.aload_n 0, 1) := dk_42 (dk_at dksX2_passes_2 6 rfl rfl)
theorem dX2_passes_55 : decode cX2_passes 55 = .ok (.dup, 1) := dk_89 (dk_at dksX2_passes_2 7 rfl rfl)
theorem dX2_passes_56 : decode cX2_passes 56 = .ok (.getfield 56, 3) := dk_180 0 56 (dk_at dksX2_passes_2 8 rfl rfl)
theorem dX2_passes_59 : decode cX2_passes 59 = .ok (.iload_n 1, 1) := dk_27 (dk_at dksX2_passes_2 11 rfl rfl)
theorem dX2_passes_60 : decode cX2_passes 60 = .ok (.ifCond .eq 8, 3) := dk_153 0 8 (dk_at dksX2_passes_2 12 rfl rfl)
theorem dX2_passes_63 : decode cX2_passes 63 = .ok (.bipush 100, 2) := dk_16 100 (dk_at dksX2_passes_2 15 rfl rfl)
theorem dX2_passes_65 : decode cX2_passes 65 = .ok (.goto 4, 3) := dk_167 0 4 (dk_at dksX2_passes_2 17 rfl rfl)
theorem dX2_passes_68 : decode cX2_passes 68 = .ok (.iconst 0, 1) := dk_3 (dk_at dksX2_passes_2 20 rfl rfl)
theorem dX2_passes_69 : decode cX2_passes 69 = .ok (.isub, 1) := dk_100 (dk_at dksX2_passes_2 21 rfl rfl)
theorem dX2_passes_70 : decode cX2_passes 70 = .ok (.putfield 56, 3) := dk_181 0 56 (dk_at dksX2_passes_3 0 rfl rfl)
theorem dX2_passes_73 : decode cX2_passes 73 = .ok (.aload_n 0, 1) := dk_42 (dk_at dksX2_passes_3 3 rfl rfl)
theorem dX2_passes_74 : decode cX2_passes 74 = .ok (.iload_n 1, 1) := dk_27 (dk_at dksX2_passes_3 4 rfl rfl)
theorem dX2_passes_75 : decode cX2_passes 75 = .ok (.invokevirtual 122, 3) := dk_182 0 122 (dk_at dksX2_passes_3 5 rfl rfl)
theorem dX2_passes_78 : decode cX2_passes 78 = .ok (.return_, 1) := dk_177 (dk_at dksX2_passes_3 8 rfl rfl)
abbrev cX2_lies : ByteArray := prog_16_method_9_code
def yX2_lies : MethodName := ⟨RX2, "lies", "()V"⟩
def dkwX2_lies_1 : List UInt8 := [180, 0, 109, 153, 0, 7, 4, 167, 0, 4, 3, 96, 181, 0, 50, 177]
abbrev dktX2_lies_1 : List UInt8 := dkwX2_lies_1 ++ []
def dkwX2_lies_0 : List UInt8 := [42, 89, 180, 0, 59, 4, 100, 181, 0, 59, 42, 5, 182, 0, 105, 42, 89, 180, 0, 50, 42, 180, 0, 9]
abbrev dktX2_lies_0 : List UInt8 := dkwX2_lies_0 ++ dktX2_lies_1
theorem dksX2_lies_0 : cX2_lies.data.toList.drop 0 = dktX2_lies_0 := by decide +kernel
theorem dksX2_lies_1 : cX2_lies.data.toList.drop 24 = dktX2_lies_1 := dk_seg dksX2_lies_0 24 rfl rfl
theorem dX2_lies_0 : decode cX2_lies 0 = .ok (.aload_n 0, 1) := dk_42 (dk_at dksX2_lies_0 0 rfl rfl)
theorem dX2_lies_1 : decode cX2_lies 1 = .ok (.dup, 1) := dk_89 (dk_at dksX2_lies_0 1 rfl rfl)
theorem dX2_lies_2 : decode cX2_lies 2 = .ok (.getfield 59, 3) := dk_180 0 59 (dk_at dksX2_lies_0 2 rfl rfl)
theorem dX2_lies_5 : decode cX2_lies 5 = .ok (.iconst 1, 1) := dk_4 (dk_at dksX2_lies_0 5 rfl rfl)
theorem dX2_lies_6 : decode cX2_lies 6 = .ok (.isub, 1) := dk_100 (dk_at dksX2_lies_0 6 rfl rfl)
theorem dX2_lies_7 : decode cX2_lies 7 = .ok (.putfield 59, 3) := dk_181 0 59 (dk_at dksX2_lies_0 7 rfl rfl)
theorem dX2_lies_10 : decode cX2_lies 10 = .ok (.aload_n 0, 1) := dk_42 (dk_at dksX2_lies_0 10 rfl rfl)
theorem dX2_lies_11 : decode cX2_lies 11 = .ok (.iconst 2, 1) := dk_5 (dk_at dksX2_lies_0 11 rfl rfl)
theorem dX2_lies_12 : decode cX2_lies 12 = .ok (.invokevirtual 105, 3) := dk_182 0 105 (dk_at dksX2_lies_0 12 rfl rfl)
theorem dX2_lies_15 : decode cX2_lies 15 = .ok (.aload_n 0, 1) := dk_42 (dk_at dksX2_lies_0 15 rfl rfl)
theorem dX2_lies_16 : decode cX2_lies 16 = .ok (.dup, 1) := dk_89 (dk_at dksX2_lies_0 16 rfl rfl)
theorem dX2_lies_17 : decode cX2_lies 17 = .ok (.getfield 50, 3) := dk_180 0 50 (dk_at dksX2_lies_0 17 rfl rfl)
theorem dX2_lies_20 : decode cX2_lies 20 = .ok (.aload_n 0, 1) := dk_42 (dk_at dksX2_lies_0 20 rfl rfl)
theorem dX2_lies_21 : decode cX2_lies 21 = .ok (.getfield 9, 3) := dk_180 0 9 (dk_at dksX2_lies_0 21 rfl rfl)
theorem dX2_lies_24 : decode cX2_lies 24 = .ok (.getfield 109, 3) := dk_180 0 109 (dk_at dksX2_lies_1 0 rfl rfl)
theorem dX2_lies_27 : decode cX2_lies 27 = .ok (.ifCond .eq 7, 3) := dk_153 0 7 (dk_at dksX2_lies_1 3 rfl rfl)
theorem dX2_lies_30 : decode cX2_lies 30 = .ok (.iconst 1, 1) := dk_4 (dk_at dksX2_lies_1 6 rfl rfl)
theorem dX2_lies_31 : decode cX2_lies 31 = .ok (.goto 4, 3) := dk_167 0 4 (dk_at dksX2_lies_1 7 rfl rfl)
theorem dX2_lies_34 : decode cX2_lies 34 = .ok (.iconst 0, 1) := dk_3 (dk_at dksX2_lies_1 10 rfl rfl)
theorem dX2_lies_35 : decode cX2_lies 35 = .ok (.iadd, 1) := dk_96 (dk_at dksX2_lies_1 11 rfl rfl)
theorem dX2_lies_36 : decode cX2_lies 36 = .ok (.putfield 50, 3) := dk_181 0 50 (dk_at dksX2_lies_1 12 rfl rfl)
theorem dX2_lies_39 : decode cX2_lies 39 = .ok (.return_, 1) := dk_177 (dk_at dksX2_lies_1 15 rfl rfl)
abbrev cX2_mends : ByteArray := prog_16_method_8_code
def yX2_mends : MethodName := ⟨RX2, "mends", "(I)V"⟩
def dkwX2_mends_0 : List UInt8 := [42, 16, 60, 42, 180, 0, 53, 27, 96, 184, 0, 99, 181, 0, 53, 177]
abbrev dktX2_mends_0 : List UInt8 := dkwX2_mends_0 ++ []
theorem dksX2_mends_0 : cX2_mends.data.toList.drop 0 = dktX2_mends_0 := by decide +kernel
theorem dX2_mends_0 : decode cX2_mends 0 = .ok (.aload_n 0, 1) := dk_42 (dk_at dksX2_mends_0 0 rfl rfl)
theorem dX2_mends_1 : decode cX2_mends 1 = .ok (.bipush 60, 2) := dk_16 60 (dk_at dksX2_mends_0 1 rfl rfl)
theorem dX2_mends_3 : decode cX2_mends 3 = .ok (.aload_n 0, 1) := dk_42 (dk_at dksX2_mends_0 3 rfl rfl)
theorem dX2_mends_4 : decode cX2_mends 4 = .ok (.getfield 53, 3) := dk_180 0 53 (dk_at dksX2_mends_0 4 rfl rfl)
theorem dX2_mends_7 : decode cX2_mends 7 = .ok (.iload_n 1, 1) := dk_27 (dk_at dksX2_mends_0 7 rfl rfl)
theorem dX2_mends_8 : decode cX2_mends 8 = .ok (.iadd, 1) := dk_96 (dk_at dksX2_mends_0 8 rfl rfl)
theorem dX2_mends_9 : decode cX2_mends 9 = .ok (.invokestatic 99, 3) := dk_184 0 99 (dk_at dksX2_mends_0 9 rfl rfl)
theorem dX2_mends_12 : decode cX2_mends 12 = .ok (.putfield 53, 3) := dk_181 0 53 (dk_at dksX2_mends_0 12 rfl rfl)
theorem dX2_mends_15 : decode cX2_mends 15 = .ok (.return_, 1) := dk_177 (dk_at dksX2_mends_0 15 rfl rfl)
abbrev cX2_riskNow : ByteArray := prog_16_method_7_code
def yX2_riskNow : MethodName := ⟨RX2, "riskNow", "()I"⟩
def dkwX2_riskNow_0 : List UInt8 := [42, 180, 0, 34, 42, 180, 0, 53, 42, 180, 0, 28, 162, 0, 8, 16, 20, 167, 0, 4, 3, 96, 172]
abbrev dktX2_riskNow_0 : List UInt8 := dkwX2_riskNow_0 ++ []
theorem dksX2_riskNow_0 : cX2_riskNow.data.toList.drop 0 = dktX2_riskNow_0 := by decide +kernel
theorem dX2_riskNow_0 : decode cX2_riskNow 0 = .ok (.aload_n 0, 1) := dk_42 (dk_at dksX2_riskNow_0 0 rfl rfl)
theorem dX2_riskNow_1 : decode cX2_riskNow 1 = .ok (.getfield 34, 3) := dk_180 0 34 (dk_at dksX2_riskNow_0 1 rfl rfl)
theorem dX2_riskNow_4 : decode cX2_riskNow 4 = .ok (.aload_n 0, 1) := dk_42 (dk_at dksX2_riskNow_0 4 rfl rfl)
theorem dX2_riskNow_5 : decode cX2_riskNow 5 = .ok (.getfield 53, 3) := dk_180 0 53 (dk_at dksX2_riskNow_0 5 rfl rfl)
theorem dX2_riskNow_8 : decode cX2_riskNow 8 = .ok (.aload_n 0, 1) := dk_42 (dk_at dksX2_riskNow_0 8 rfl rfl)
theorem dX2_riskNow_9 : decode cX2_riskNow 9 = .ok (.getfield 28, 3) := dk_180 0 28 (dk_at dksX2_riskNow_0 9 rfl rfl)
theorem dX2_riskNow_12 : decode cX2_riskNow 12 = .ok (.if_icmp .ge 8, 3) := dk_162 0 8 (dk_at dksX2_riskNow_0 12 rfl rfl)
theorem dX2_riskNow_15 : decode cX2_riskNow 15 = .ok (.bipush 20, 2) := dk_16 20 (dk_at dksX2_riskNow_0 15 rfl rfl)
theorem dX2_riskNow_17 : decode cX2_riskNow 17 = .ok (.goto 4, 3) := dk_167 0 4 (dk_at dksX2_riskNow_0 17 rfl rfl)
theorem dX2_riskNow_20 : decode cX2_riskNow 20 = .ok (.iconst 0, 1) := dk_3 (dk_at dksX2_riskNow_0 20 rfl rfl)
theorem dX2_riskNow_21 : decode cX2_riskNow 21 = .ok (.iadd, 1) := dk_96 (dk_at dksX2_riskNow_0 21 rfl rfl)
theorem dX2_riskNow_22 : decode cX2_riskNow 22 = .ok (.ireturn, 1) := dk_172 (dk_at dksX2_riskNow_0 22 rfl rfl)
abbrev cX2_puffs : ByteArray := prog_16_method_10_code
def yX2_puffs : MethodName := ⟨RX2, "puffs", "()V"⟩
def dkwX2_puffs_0 : List UInt8 := [42, 3, 42, 180, 0, 53, 42, 180, 0, 28, 100, 184, 0, 42, 181, 0, 53, 42, 4, 182, 0, 105, 177]
abbrev dktX2_puffs_0 : List UInt8 := dkwX2_puffs_0 ++ []
theorem dksX2_puffs_0 : cX2_puffs.data.toList.drop 0 = dktX2_puffs_0 := by decide +kernel
theorem dX2_puffs_0 : decode cX2_puffs 0 = .ok (.aload_n 0, 1) := dk_42 (dk_at dksX2_puffs_0 0 rfl rfl)
theorem dX2_puffs_1 : decode cX2_puffs 1 = .ok (.iconst 0, 1) := dk_3 (dk_at dksX2_puffs_0 1 rfl rfl)
theorem dX2_puffs_2 : decode cX2_puffs 2 = .ok (.aload_n 0, 1) := dk_42 (dk_at dksX2_puffs_0 2 rfl rfl)
theorem dX2_puffs_3 : decode cX2_puffs 3 = .ok (.getfield 53, 3) := dk_180 0 53 (dk_at dksX2_puffs_0 3 rfl rfl)
theorem dX2_puffs_6 : decode cX2_puffs 6 = .ok (.aload_n 0, 1) := dk_42 (dk_at dksX2_puffs_0 6 rfl rfl)
theorem dX2_puffs_7 : decode cX2_puffs 7 = .ok (.getfield 28, 3) := dk_180 0 28 (dk_at dksX2_puffs_0 7 rfl rfl)
theorem dX2_puffs_10 : decode cX2_puffs 10 = .ok (.isub, 1) := dk_100 (dk_at dksX2_puffs_0 10 rfl rfl)
theorem dX2_puffs_11 : decode cX2_puffs 11 = .ok (.invokestatic 42, 3) := dk_184 0 42 (dk_at dksX2_puffs_0 11 rfl rfl)
theorem dX2_puffs_14 : decode cX2_puffs 14 = .ok (.putfield 53, 3) := dk_181 0 53 (dk_at dksX2_puffs_0 14 rfl rfl)
theorem dX2_puffs_17 : decode cX2_puffs 17 = .ok (.aload_n 0, 1) := dk_42 (dk_at dksX2_puffs_0 17 rfl rfl)
theorem dX2_puffs_18 : decode cX2_puffs 18 = .ok (.iconst 1, 1) := dk_4 (dk_at dksX2_puffs_0 18 rfl rfl)
theorem dX2_puffs_19 : decode cX2_puffs 19 = .ok (.invokevirtual 105, 3) := dk_182 0 105 (dk_at dksX2_puffs_0 19 rfl rfl)
theorem dX2_puffs_22 : decode cX2_puffs 22 = .ok (.return_, 1) := dk_177 (dk_at dksX2_puffs_0 22 rfl rfl)
abbrev cX2_goes : ByteArray := prog_16_method_11_code
def yX2_goes : MethodName := ⟨RX2, "goes", "(Z)V"⟩
def dkwX2_goes_2 : List UInt8 := [181, 0, 62, 167, 0, 16, 42, 89, 180, 0, 50, 42, 180, 0, 21, 96, 181, 0, 50, 177]
abbrev dktX2_goes_2 : List UInt8 := dkwX2_goes_2 ++ []
def dkwX2_goes_1 : List UInt8 := [181, 0, 65, 42, 42, 180, 0, 9, 180, 0, 36, 4, 46, 181, 0, 59, 42, 89, 180, 0, 62, 4, 96]
abbrev dktX2_goes_1 : List UInt8 := dkwX2_goes_1 ++ dktX2_goes_2
def dkwX2_goes_0 : List UInt8 := [27, 153, 0, 51, 42, 42, 180, 0, 62, 154, 0, 10, 42, 180, 0, 50, 167, 0, 7, 42, 180, 0, 65]
abbrev dktX2_goes_0 : List UInt8 := dkwX2_goes_0 ++ dktX2_goes_1
theorem dksX2_goes_0 : cX2_goes.data.toList.drop 0 = dktX2_goes_0 := by decide +kernel
theorem dksX2_goes_1 : cX2_goes.data.toList.drop 23 = dktX2_goes_1 := dk_seg dksX2_goes_0 23 rfl rfl
theorem dksX2_goes_2 : cX2_goes.data.toList.drop 46 = dktX2_goes_2 := dk_seg dksX2_goes_1 23 rfl rfl
theorem dX2_goes_0 : decode cX2_goes 0 = .ok (.iload_n 1, 1) := dk_27 (dk_at dksX2_goes_0 0 rfl rfl)
theorem dX2_goes_1 : decode cX2_goes 1 = .ok (.ifCond .eq 51, 3) := dk_153 0 51 (dk_at dksX2_goes_0 1 rfl rfl)
theorem dX2_goes_4 : decode cX2_goes 4 = .ok (.aload_n 0, 1) := dk_42 (dk_at dksX2_goes_0 4 rfl rfl)
theorem dX2_goes_5 : decode cX2_goes 5 = .ok (.aload_n 0, 1) := dk_42 (dk_at dksX2_goes_0 5 rfl rfl)
theorem dX2_goes_6 : decode cX2_goes 6 = .ok (.getfield 62, 3) := dk_180 0 62 (dk_at dksX2_goes_0 6 rfl rfl)
theorem dX2_goes_9 : decode cX2_goes 9 = .ok (.ifCond .ne 10, 3) := dk_154 0 10 (dk_at dksX2_goes_0 9 rfl rfl)
theorem dX2_goes_12 : decode cX2_goes 12 = .ok (.aload_n 0, 1) := dk_42 (dk_at dksX2_goes_0 12 rfl rfl)
theorem dX2_goes_13 : decode cX2_goes 13 = .ok (.getfield 50, 3) := dk_180 0 50 (dk_at dksX2_goes_0 13 rfl rfl)
theorem dX2_goes_16 : decode cX2_goes 16 = .ok (.goto 7, 3) := dk_167 0 7 (dk_at dksX2_goes_0 16 rfl rfl)
theorem dX2_goes_19 : decode cX2_goes 19 = .ok (.aload_n 0, 1) := dk_42 (dk_at dksX2_goes_0 19 rfl rfl)
theorem dX2_goes_20 : decode cX2_goes 20 = .ok (.getfield 65, 3) := dk_180 0 65 (dk_at dksX2_goes_0 20 rfl rfl)
theorem dX2_goes_23 : decode cX2_goes 23 = .ok (.putfield 65, 3) := dk_181 0 65 (dk_at dksX2_goes_1 0 rfl rfl)
theorem dX2_goes_26 : decode cX2_goes 26 = .ok (.aload_n 0, 1) := dk_42 (dk_at dksX2_goes_1 3 rfl rfl)
theorem dX2_goes_27 : decode cX2_goes 27 = .ok (.aload_n 0, 1) := dk_42 (dk_at dksX2_goes_1 4 rfl rfl)
theorem dX2_goes_28 : decode cX2_goes 28 = .ok (.getfield 9, 3) := dk_180 0 9 (dk_at dksX2_goes_1 5 rfl rfl)
theorem dX2_goes_31 : decode cX2_goes 31 = .ok (.getfield 36, 3) := dk_180 0 36 (dk_at dksX2_goes_1 8 rfl rfl)
theorem dX2_goes_34 : decode cX2_goes 34 = .ok (.iconst 1, 1) := dk_4 (dk_at dksX2_goes_1 11 rfl rfl)
theorem dX2_goes_35 : decode cX2_goes 35 = .ok (.iaload, 1) := dk_46 (dk_at dksX2_goes_1 12 rfl rfl)
theorem dX2_goes_36 : decode cX2_goes 36 = .ok (.putfield 59, 3) := dk_181 0 59 (dk_at dksX2_goes_1 13 rfl rfl)
theorem dX2_goes_39 : decode cX2_goes 39 = .ok (.aload_n 0, 1) := dk_42 (dk_at dksX2_goes_1 16 rfl rfl)
theorem dX2_goes_40 : decode cX2_goes 40 = .ok (.dup, 1) := dk_89 (dk_at dksX2_goes_1 17 rfl rfl)
theorem dX2_goes_41 : decode cX2_goes 41 = .ok (.getfield 62, 3) := dk_180 0 62 (dk_at dksX2_goes_1 18 rfl rfl)
theorem dX2_goes_44 : decode cX2_goes 44 = .ok (.iconst 1, 1) := dk_4 (dk_at dksX2_goes_1 21 rfl rfl)
theorem dX2_goes_45 : decode cX2_goes 45 = .ok (.iadd, 1) := dk_96 (dk_at dksX2_goes_1 22 rfl rfl)
theorem dX2_goes_46 : decode cX2_goes 46 = .ok (.putfield 62, 3) := dk_181 0 62 (dk_at dksX2_goes_2 0 rfl rfl)
theorem dX2_goes_49 : decode cX2_goes 49 = .ok (.goto 16, 3) := dk_167 0 16 (dk_at dksX2_goes_2 3 rfl rfl)
theorem dX2_goes_52 : decode cX2_goes 52 = .ok (.aload_n 0, 1) := dk_42 (dk_at dksX2_goes_2 6 rfl rfl)
theorem dX2_goes_53 : decode cX2_goes 53 = .ok (.dup, 1) := dk_89 (dk_at dksX2_goes_2 7 rfl rfl)
theorem dX2_goes_54 : decode cX2_goes 54 = .ok (.getfield 50, 3) := dk_180 0 50 (dk_at dksX2_goes_2 8 rfl rfl)
theorem dX2_goes_57 : decode cX2_goes 57 = .ok (.aload_n 0, 1) := dk_42 (dk_at dksX2_goes_2 11 rfl rfl)
theorem dX2_goes_58 : decode cX2_goes 58 = .ok (.getfield 21, 3) := dk_180 0 21 (dk_at dksX2_goes_2 12 rfl rfl)
theorem dX2_goes_61 : decode cX2_goes 61 = .ok (.iadd, 1) := dk_96 (dk_at dksX2_goes_2 15 rfl rfl)
theorem dX2_goes_62 : decode cX2_goes 62 = .ok (.putfield 50, 3) := dk_181 0 50 (dk_at dksX2_goes_2 16 rfl rfl)
theorem dX2_goes_65 : decode cX2_goes 65 = .ok (.return_, 1) := dk_177 (dk_at dksX2_goes_2 19 rfl rfl)
abbrev cX2_comesIn : ByteArray := prog_16_method_16_code
def yX2_comesIn : MethodName := ⟨RX2, "comesIn", "()I"⟩
def dkwX2_comesIn_0 : List UInt8 := [42, 17, 3, 231, 182, 0, 136, 87, 42, 182, 0, 140, 172]
abbrev dktX2_comesIn_0 : List UInt8 := dkwX2_comesIn_0 ++ []
theorem dksX2_comesIn_0 : cX2_comesIn.data.toList.drop 0 = dktX2_comesIn_0 := by decide +kernel
theorem dX2_comesIn_0 : decode cX2_comesIn 0 = .ok (.aload_n 0, 1) := dk_42 (dk_at dksX2_comesIn_0 0 rfl rfl)
theorem dX2_comesIn_1 : decode cX2_comesIn 1 = .ok (.sipush 999, 3) := dk_17 3 231 (dk_at dksX2_comesIn_0 1 rfl rfl)
theorem dX2_comesIn_4 : decode cX2_comesIn 4 = .ok (.invokevirtual 136, 3) := dk_182 0 136 (dk_at dksX2_comesIn_0 4 rfl rfl)
theorem dX2_comesIn_7 : decode cX2_comesIn 7 = .ok (.pop, 1) := dk_87 (dk_at dksX2_comesIn_0 7 rfl rfl)
theorem dX2_comesIn_8 : decode cX2_comesIn 8 = .ok (.aload_n 0, 1) := dk_42 (dk_at dksX2_comesIn_0 8 rfl rfl)
theorem dX2_comesIn_9 : decode cX2_comesIn 9 = .ok (.invokevirtual 140, 3) := dk_182 0 140 (dk_at dksX2_comesIn_0 9 rfl rfl)
theorem dX2_comesIn_12 : decode cX2_comesIn 12 = .ok (.ireturn, 1) := dk_172 (dk_at dksX2_comesIn_0 12 rfl rfl)
abbrev cX2_time : ByteArray := prog_16_method_15_code
def yX2_time : MethodName := ⟨RX2, "time", "()I"⟩
def dkwX2_time_1 : List UInt8 := [167, 0, 6, 17, 3, 231, 172]
abbrev dktX2_time_1 : List UInt8 := dkwX2_time_1 ++ []
def dkwX2_time_0 : List UInt8 := [42, 182, 0, 129, 153, 0, 21, 17, 3, 231, 42, 180, 0, 68, 42, 180, 0, 47, 96, 184, 0, 99]
abbrev dktX2_time_0 : List UInt8 := dkwX2_time_0 ++ dktX2_time_1
theorem dksX2_time_0 : cX2_time.data.toList.drop 0 = dktX2_time_0 := by decide +kernel
theorem dksX2_time_1 : cX2_time.data.toList.drop 22 = dktX2_time_1 := dk_seg dksX2_time_0 22 rfl rfl
theorem dX2_time_0 : decode cX2_time 0 = .ok (.aload_n 0, 1) := dk_42 (dk_at dksX2_time_0 0 rfl rfl)
theorem dX2_time_1 : decode cX2_time 1 = .ok (.invokevirtual 129, 3) := dk_182 0 129 (dk_at dksX2_time_0 1 rfl rfl)
theorem dX2_time_4 : decode cX2_time 4 = .ok (.ifCond .eq 21, 3) := dk_153 0 21 (dk_at dksX2_time_0 4 rfl rfl)
theorem dX2_time_7 : decode cX2_time 7 = .ok (.sipush 999, 3) := dk_17 3 231 (dk_at dksX2_time_0 7 rfl rfl)
theorem dX2_time_10 : decode cX2_time 10 = .ok (.aload_n 0, 1) := dk_42 (dk_at dksX2_time_0 10 rfl rfl)
theorem dX2_time_11 : decode cX2_time 11 = .ok (.getfield 68, 3) := dk_180 0 68 (dk_at dksX2_time_0 11 rfl rfl)
theorem dX2_time_14 : decode cX2_time 14 = .ok (.aload_n 0, 1) := dk_42 (dk_at dksX2_time_0 14 rfl rfl)
theorem dX2_time_15 : decode cX2_time 15 = .ok (.getfield 47, 3) := dk_180 0 47 (dk_at dksX2_time_0 15 rfl rfl)
theorem dX2_time_18 : decode cX2_time 18 = .ok (.iadd, 1) := dk_96 (dk_at dksX2_time_0 18 rfl rfl)
theorem dX2_time_19 : decode cX2_time 19 = .ok (.invokestatic 99, 3) := dk_184 0 99 (dk_at dksX2_time_0 19 rfl rfl)
theorem dX2_time_22 : decode cX2_time 22 = .ok (.goto 6, 3) := dk_167 0 6 (dk_at dksX2_time_1 0 rfl rfl)
theorem dX2_time_25 : decode cX2_time 25 = .ok (.sipush 999, 3) := dk_17 3 231 (dk_at dksX2_time_1 3 rfl rfl)
theorem dX2_time_28 : decode cX2_time 28 = .ok (.ireturn, 1) := dk_172 (dk_at dksX2_time_1 6 rfl rfl)
abbrev cX2_ofTwo : ByteArray := prog_16_method_5_code
def yX2_ofTwo : MethodName := ⟨RX2, "ofTwo", "(LInASackToTheRope$Field;III)LInASackToTheRope$Runner;"⟩
def dkwX2_ofTwo_2 : List UInt8 := [21, 4, 182, 0, 74, 21, 6, 96, 43, 21, 4, 182, 0, 77, 43, 180, 0, 81, 28, 46, 182, 0, 84, 176]
abbrev dktX2_ofTwo_2 : List UInt8 := dkwX2_ofTwo_2 ++ []
def dkwX2_ofTwo_1 : List UInt8 := [180, 0, 71, 29, 46, 100, 184, 0, 102, 54, 6, 42, 43, 43, 180, 0, 88, 28, 50, 21, 5, 43, 21, 5]
abbrev dktX2_ofTwo_1 : List UInt8 := dkwX2_ofTwo_1 ++ dktX2_ofTwo_2
def dkwX2_ofTwo_0 : List UInt8 := [43, 180, 0, 71, 28, 46, 43, 180, 0, 71, 29, 46, 184, 0, 99, 54, 5, 43, 180, 0, 71, 28, 46, 43]
abbrev dktX2_ofTwo_0 : List UInt8 := dkwX2_ofTwo_0 ++ dktX2_ofTwo_1
theorem dksX2_ofTwo_0 : cX2_ofTwo.data.toList.drop 0 = dktX2_ofTwo_0 := by decide +kernel
theorem dksX2_ofTwo_1 : cX2_ofTwo.data.toList.drop 24 = dktX2_ofTwo_1 := dk_seg dksX2_ofTwo_0 24 rfl rfl
theorem dksX2_ofTwo_2 : cX2_ofTwo.data.toList.drop 48 = dktX2_ofTwo_2 := dk_seg dksX2_ofTwo_1 24 rfl rfl
theorem dX2_ofTwo_0 : decode cX2_ofTwo 0 = .ok (.aload_n 1, 1) := dk_43 (dk_at dksX2_ofTwo_0 0 rfl rfl)
theorem dX2_ofTwo_1 : decode cX2_ofTwo 1 = .ok (.getfield 71, 3) := dk_180 0 71 (dk_at dksX2_ofTwo_0 1 rfl rfl)
theorem dX2_ofTwo_4 : decode cX2_ofTwo 4 = .ok (.iload_n 2, 1) := dk_28 (dk_at dksX2_ofTwo_0 4 rfl rfl)
theorem dX2_ofTwo_5 : decode cX2_ofTwo 5 = .ok (.iaload, 1) := dk_46 (dk_at dksX2_ofTwo_0 5 rfl rfl)
theorem dX2_ofTwo_6 : decode cX2_ofTwo 6 = .ok (.aload_n 1, 1) := dk_43 (dk_at dksX2_ofTwo_0 6 rfl rfl)
theorem dX2_ofTwo_7 : decode cX2_ofTwo 7 = .ok (.getfield 71, 3) := dk_180 0 71 (dk_at dksX2_ofTwo_0 7 rfl rfl)
theorem dX2_ofTwo_10 : decode cX2_ofTwo 10 = .ok (.iload_n 3, 1) := dk_29 (dk_at dksX2_ofTwo_0 10 rfl rfl)
theorem dX2_ofTwo_11 : decode cX2_ofTwo 11 = .ok (.iaload, 1) := dk_46 (dk_at dksX2_ofTwo_0 11 rfl rfl)
theorem dX2_ofTwo_12 : decode cX2_ofTwo 12 = .ok (.invokestatic 99, 3) := dk_184 0 99 (dk_at dksX2_ofTwo_0 12 rfl rfl)
theorem dX2_ofTwo_15 : decode cX2_ofTwo 15 = .ok (.istore 5, 2) := dk_54 5 (dk_at dksX2_ofTwo_0 15 rfl rfl)
theorem dX2_ofTwo_17 : decode cX2_ofTwo 17 = .ok (.aload_n 1, 1) := dk_43 (dk_at dksX2_ofTwo_0 17 rfl rfl)
theorem dX2_ofTwo_18 : decode cX2_ofTwo 18 = .ok (.getfield 71, 3) := dk_180 0 71 (dk_at dksX2_ofTwo_0 18 rfl rfl)
theorem dX2_ofTwo_21 : decode cX2_ofTwo 21 = .ok (.iload_n 2, 1) := dk_28 (dk_at dksX2_ofTwo_0 21 rfl rfl)
theorem dX2_ofTwo_22 : decode cX2_ofTwo 22 = .ok (.iaload, 1) := dk_46 (dk_at dksX2_ofTwo_0 22 rfl rfl)
theorem dX2_ofTwo_23 : decode cX2_ofTwo 23 = .ok (.aload_n 1, 1) := dk_43 (dk_at dksX2_ofTwo_0 23 rfl rfl)
theorem dX2_ofTwo_24 : decode cX2_ofTwo 24 = .ok (.getfield 71, 3) := dk_180 0 71 (dk_at dksX2_ofTwo_1 0 rfl rfl)
theorem dX2_ofTwo_27 : decode cX2_ofTwo 27 = .ok (.iload_n 3, 1) := dk_29 (dk_at dksX2_ofTwo_1 3 rfl rfl)
theorem dX2_ofTwo_28 : decode cX2_ofTwo 28 = .ok (.iaload, 1) := dk_46 (dk_at dksX2_ofTwo_1 4 rfl rfl)
theorem dX2_ofTwo_29 : decode cX2_ofTwo 29 = .ok (.isub, 1) := dk_100 (dk_at dksX2_ofTwo_1 5 rfl rfl)
theorem dX2_ofTwo_30 : decode cX2_ofTwo 30 = .ok (.invokestatic 102, 3) := dk_184 0 102 (dk_at dksX2_ofTwo_1 6 rfl rfl)
theorem dX2_ofTwo_33 : decode cX2_ofTwo 33 = .ok (.istore 6, 2) := dk_54 6 (dk_at dksX2_ofTwo_1 9 rfl rfl)
theorem dX2_ofTwo_35 : decode cX2_ofTwo 35 = .ok (.aload_n 0, 1) := dk_42 (dk_at dksX2_ofTwo_1 11 rfl rfl)
theorem dX2_ofTwo_36 : decode cX2_ofTwo 36 = .ok (.aload_n 1, 1) := dk_43 (dk_at dksX2_ofTwo_1 12 rfl rfl)
theorem dX2_ofTwo_37 : decode cX2_ofTwo 37 = .ok (.aload_n 1, 1) := dk_43 (dk_at dksX2_ofTwo_1 13 rfl rfl)
theorem dX2_ofTwo_38 : decode cX2_ofTwo 38 = .ok (.getfield 88, 3) := dk_180 0 88 (dk_at dksX2_ofTwo_1 14 rfl rfl)
theorem dX2_ofTwo_41 : decode cX2_ofTwo 41 = .ok (.iload_n 2, 1) := dk_28 (dk_at dksX2_ofTwo_1 17 rfl rfl)
theorem dX2_ofTwo_42 : decode cX2_ofTwo 42 = .ok (.aaload, 1) := dk_50 (dk_at dksX2_ofTwo_1 18 rfl rfl)
theorem dX2_ofTwo_43 : decode cX2_ofTwo 43 = .ok (.iload 5, 2) := dk_21 5 (dk_at dksX2_ofTwo_1 19 rfl rfl)
theorem dX2_ofTwo_45 : decode cX2_ofTwo 45 = .ok (.aload_n 1, 1) := dk_43 (dk_at dksX2_ofTwo_1 21 rfl rfl)
theorem dX2_ofTwo_46 : decode cX2_ofTwo 46 = .ok (.iload 5, 2) := dk_21 5 (dk_at dksX2_ofTwo_1 22 rfl rfl)
theorem dX2_ofTwo_48 : decode cX2_ofTwo 48 = .ok (.iload 4, 2) := dk_21 4 (dk_at dksX2_ofTwo_2 0 rfl rfl)
theorem dX2_ofTwo_50 : decode cX2_ofTwo 50 = .ok (.invokevirtual 74, 3) := dk_182 0 74 (dk_at dksX2_ofTwo_2 2 rfl rfl)
theorem dX2_ofTwo_53 : decode cX2_ofTwo 53 = .ok (.iload 6, 2) := dk_21 6 (dk_at dksX2_ofTwo_2 5 rfl rfl)
theorem dX2_ofTwo_55 : decode cX2_ofTwo 55 = .ok (.iadd, 1) := dk_96 (dk_at dksX2_ofTwo_2 7 rfl rfl)
theorem dX2_ofTwo_56 : decode cX2_ofTwo 56 = .ok (.aload_n 1, 1) := dk_43 (dk_at dksX2_ofTwo_2 8 rfl rfl)
theorem dX2_ofTwo_57 : decode cX2_ofTwo 57 = .ok (.iload 4, 2) := dk_21 4 (dk_at dksX2_ofTwo_2 9 rfl rfl)
theorem dX2_ofTwo_59 : decode cX2_ofTwo 59 = .ok (.invokevirtual 77, 3) := dk_182 0 77 (dk_at dksX2_ofTwo_2 11 rfl rfl)
theorem dX2_ofTwo_62 : decode cX2_ofTwo 62 = .ok (.aload_n 1, 1) := dk_43 (dk_at dksX2_ofTwo_2 14 rfl rfl)
theorem dX2_ofTwo_63 : decode cX2_ofTwo 63 = .ok (.getfield 81, 3) := dk_180 0 81 (dk_at dksX2_ofTwo_2 15 rfl rfl)
theorem dX2_ofTwo_66 : decode cX2_ofTwo 66 = .ok (.iload_n 2, 1) := dk_28 (dk_at dksX2_ofTwo_2 18 rfl rfl)
theorem dX2_ofTwo_67 : decode cX2_ofTwo 67 = .ok (.iaload, 1) := dk_46 (dk_at dksX2_ofTwo_2 19 rfl rfl)
theorem dX2_ofTwo_68 : decode cX2_ofTwo 68 = .ok (.invokevirtual 84, 3) := dk_182 0 84 (dk_at dksX2_ofTwo_2 20 rfl rfl)
theorem dX2_ofTwo_71 : decode cX2_ofTwo 71 = .ok (.areturn, 1) := dk_176 (dk_at dksX2_ofTwo_2 23 rfl rfl)
abbrev cX2_passesDrawn : ByteArray := prog_16_method_13_code
def yX2_passesDrawn : MethodName := ⟨RX2, "passesDrawn", "()V"⟩
def dkwX2_passesDrawn_2 : List UInt8 := [182, 0, 119, 42, 27, 182, 0, 122, 177]
abbrev dktX2_passesDrawn_2 : List UInt8 := dkwX2_passesDrawn_2 ++ []
def dkwX2_passesDrawn_1 : List UInt8 := [180, 0, 9, 16, 100, 182, 0, 126, 42, 182, 0, 116, 162, 0, 7, 4, 167, 0, 4, 3, 60, 42]
abbrev dktX2_passesDrawn_1 : List UInt8 := dkwX2_passesDrawn_1 ++ dktX2_passesDrawn_2
def dkwX2_passesDrawn_0 : List UInt8 := [42, 89, 180, 0, 68, 4, 96, 181, 0, 68, 42, 180, 0, 59, 158, 0, 8, 42, 182, 0, 113, 177, 42]
abbrev dktX2_passesDrawn_0 : List UInt8 := dkwX2_passesDrawn_0 ++ dktX2_passesDrawn_1
theorem dksX2_passesDrawn_0 : cX2_passesDrawn.data.toList.drop 0 = dktX2_passesDrawn_0 := by decide +kernel
theorem dksX2_passesDrawn_1 : cX2_passesDrawn.data.toList.drop 23 = dktX2_passesDrawn_1 := dk_seg dksX2_passesDrawn_0 23 rfl rfl
theorem dksX2_passesDrawn_2 : cX2_passesDrawn.data.toList.drop 45 = dktX2_passesDrawn_2 := dk_seg dksX2_passesDrawn_1 22 rfl rfl
theorem dX2_passesDrawn_0 : decode cX2_passesDrawn 0 = .ok (.aload_n 0, 1) := dk_42 (dk_at dksX2_passesDrawn_0 0 rfl rfl)
theorem dX2_passesDrawn_1 : decode cX2_passesDrawn 1 = .ok (.dup, 1) := dk_89 (dk_at dksX2_passesDrawn_0 1 rfl rfl)
theorem dX2_passesDrawn_2 : decode cX2_passesDrawn 2 = .ok (.getfield 68, 3) := dk_180 0 68 (dk_at dksX2_passesDrawn_0 2 rfl rfl)
theorem dX2_passesDrawn_5 : decode cX2_passesDrawn 5 = .ok (.iconst 1, 1) := dk_4 (dk_at dksX2_passesDrawn_0 5 rfl rfl)
theorem dX2_passesDrawn_6 : decode cX2_passesDrawn 6 = .ok (.iadd, 1) := dk_96 (dk_at dksX2_passesDrawn_0 6 rfl rfl)
theorem dX2_passesDrawn_7 : decode cX2_passesDrawn 7 = .ok (.putfield 68, 3) := dk_181 0 68 (dk_at dksX2_passesDrawn_0 7 rfl rfl)
theorem dX2_passesDrawn_10 : decode cX2_passesDrawn 10 = .ok (.aload_n 0, 1) := dk_42 (dk_at dksX2_passesDrawn_0 10 rfl rfl)
theorem dX2_passesDrawn_11 : decode cX2_passesDrawn 11 = .ok (.getfield 59, 3) := dk_180 0 59 (dk_at dksX2_passesDrawn_0 11 rfl rfl)
theorem dX2_passesDrawn_14 : decode cX2_passesDrawn 14 = .ok (.ifCond .le 8, 3) := dk_158 0 8 (dk_at dksX2_passesDrawn_0 14 rfl rfl)
theorem dX2_passesDrawn_17 : decode cX2_passesDrawn 17 = .ok (.aload_n 0, 1) := dk_42 (dk_at dksX2_passesDrawn_0 17 rfl rfl)
theorem dX2_passesDrawn_18 : decode cX2_passesDrawn 18 = .ok (.invokevirtual 113, 3) := dk_182 0 113 (dk_at dksX2_passesDrawn_0 18 rfl rfl)
theorem dX2_passesDrawn_21 : decode cX2_passesDrawn 21 = .ok (.return_, 1) := dk_177 (dk_at dksX2_passesDrawn_0 21 rfl rfl)
theorem dX2_passesDrawn_22 : decode cX2_passesDrawn 22 = .ok (.aload_n 0, 1) := dk_42 (dk_at dksX2_passesDrawn_0 22 rfl rfl)
theorem dX2_passesDrawn_23 : decode cX2_passesDrawn 23 = .ok (.getfield 9, 3) := dk_180 0 9 (dk_at dksX2_passesDrawn_1 0 rfl rfl)
theorem dX2_passesDrawn_26 : decode cX2_passesDrawn 26 = .ok (.bipush 100, 2) := dk_16 100 (dk_at dksX2_passesDrawn_1 3 rfl rfl)
theorem dX2_passesDrawn_28 : decode cX2_passesDrawn 28 = .ok (.invokevirtual 126, 3) := dk_182 0 126 (dk_at dksX2_passesDrawn_1 5 rfl rfl)
theorem dX2_passesDrawn_31 : decode cX2_passesDrawn 31 = .ok (.aload_n 0, 1) := dk_42 (dk_at dksX2_passesDrawn_1 8 rfl rfl)
theorem dX2_passesDrawn_32 : decode cX2_passesDrawn 32 = .ok (.invokevirtual 116, 3) := dk_182 0 116 (dk_at dksX2_passesDrawn_1 9 rfl rfl)
theorem dX2_passesDrawn_35 : decode cX2_passesDrawn 35 = .ok (.if_icmp .ge 7, 3) := dk_162 0 7 (dk_at dksX2_passesDrawn_1 12 rfl rfl)
theorem dX2_passesDrawn_38 : decode cX2_passesDrawn 38 = .ok (.iconst 1, 1) := dk_4 (dk_at dksX2_passesDrawn_1 15 rfl rfl)
theorem dX2_passesDrawn_39 : decode cX2_passesDrawn 39 = .ok (.goto 4, 3) := dk_167 0 4 (dk_at dksX2_passesDrawn_1 16 rfl rfl)
theorem dX2_passesDrawn_42 : decode cX2_passesDrawn 42 = .ok (.iconst 0, 1) := dk_3 (dk_at dksX2_passesDrawn_1 19 rfl rfl)
theorem dX2_passesDrawn_43 : decode cX2_passesDrawn 43 = .ok (.istore_n 1, 1) := dk_60 (dk_at dksX2_passesDrawn_1 20 rfl rfl)
theorem dX2_passesDrawn_44 : decode cX2_passesDrawn 44 = .ok (.aload_n 0, 1) := dk_42 (dk_at dksX2_passesDrawn_1 21 rfl rfl)
theorem dX2_passesDrawn_45 : decode cX2_passesDrawn 45 = .ok (.invokevirtual 119, 3) := dk_182 0 119 (dk_at dksX2_passesDrawn_2 0 rfl rfl)
theorem dX2_passesDrawn_48 : decode cX2_passesDrawn 48 = .ok (.aload_n 0, 1) := dk_42 (dk_at dksX2_passesDrawn_2 3 rfl rfl)
theorem dX2_passesDrawn_49 : decode cX2_passesDrawn 49 = .ok (.iload_n 1, 1) := dk_27 (dk_at dksX2_passesDrawn_2 4 rfl rfl)
theorem dX2_passesDrawn_50 : decode cX2_passesDrawn 50 = .ok (.invokevirtual 122, 3) := dk_182 0 122 (dk_at dksX2_passesDrawn_2 5 rfl rfl)
theorem dX2_passesDrawn_53 : decode cX2_passesDrawn 53 = .ok (.return_, 1) := dk_177 (dk_at dksX2_passesDrawn_2 8 rfl rfl)
theorem q96 : (Jvm.Cond.initialized "InASackToTheRope$Runner") ∈ lw_all := lw_g (lw_at lw_m1 3 rfl) rfl
theorem q157 : (Jvm.Cond.instantiable "InASackToTheRope$Runner" (12 : Nat)) ∈ lw_all := lw_g (lw_at lw_m1 64 rfl) rfl
theorem q159 : (Jvm.Cond.instanceMethod ({ cls := "InASackToTheRope$Runner", name := "<init>", desc := "()V" } : Jvm.MethodName)) ∈ lw_all := lw_g (lw_at lw_m1 66 rfl) rfl
theorem q160 : (Jvm.Cond.code ({ cls := "InASackToTheRope$Runner", name := "<init>", desc := "()V" } : Jvm.MethodName) prog_16_method_1_code (1 : Nat) (Option.none : Option Jvm.ClassFile.FieldType)) ∈ lw_all := lw_g (lw_at lw_m1 67 rfl) rfl
theorem q161 : (Jvm.Cond.methodLink "InASackToTheRope$Runner" (3 : Nat) ({ cls := "java/lang/Object", name := "<init>", desc := "()V" } : Jvm.MethodName)) ∈ lw_all := lw_g (lw_at lw_m1 68 rfl) rfl
theorem q162 : (Jvm.Cond.fieldLink "InASackToTheRope$Runner" (9 : Nat) "InASackToTheRope$Runner" "w" "LInASackToTheRope$Field;") ∈ lw_all := lw_g (lw_at lw_m1 69 rfl) rfl
theorem q163 : (Jvm.Cond.fieldLink "InASackToTheRope$Runner" (21 : Nat) "InASackToTheRope$Runner" "stride" "I") ∈ lw_all := lw_g (lw_at lw_m1 70 rfl) rfl
theorem q164 : (Jvm.Cond.fieldLink "InASackToTheRope$Runner" (28 : Nat) "InASackToTheRope$Runner" "puff" "I") ∈ lw_all := lw_g (lw_at lw_m1 71 rfl) rfl
theorem q165 : (Jvm.Cond.fieldLink "InASackToTheRope$Runner" (34 : Nat) "InASackToTheRope$Runner" "risk" "I") ∈ lw_all := lw_g (lw_at lw_m1 72 rfl) rfl
theorem q166 : (Jvm.Cond.fieldLink "InASackToTheRope$Runner" (47 : Nat) "InASackToTheRope$Runner" "late" "I") ∈ lw_all := lw_g (lw_at lw_m1 73 rfl) rfl
theorem q167 : (Jvm.Cond.fieldLink "InASackToTheRope$Runner" (50 : Nat) "InASackToTheRope$Runner" "at" "I") ∈ lw_all := lw_g (lw_at lw_m1 74 rfl) rfl
theorem q169 : (Jvm.Cond.fieldLink "InASackToTheRope$Runner" (53 : Nat) "InASackToTheRope$Runner" "breath" "I") ∈ lw_all := lw_g (lw_at lw_m1 76 rfl) rfl
theorem q171 : (Jvm.Cond.fieldLink "InASackToTheRope$Runner" (56 : Nat) "InASackToTheRope$Runner" "wobble" "I") ∈ lw_all := lw_g (lw_at lw_m1 78 rfl) rfl
theorem q173 : (Jvm.Cond.fieldLink "InASackToTheRope$Runner" (59 : Nat) "InASackToTheRope$Runner" "down" "I") ∈ lw_all := lw_g (lw_at lw_m1 80 rfl) rfl
theorem q175 : (Jvm.Cond.fieldLink "InASackToTheRope$Runner" (62 : Nat) "InASackToTheRope$Runner" "falls" "I") ∈ lw_all := lw_g (lw_at lw_m1 82 rfl) rfl
theorem q177 : (Jvm.Cond.fieldLink "InASackToTheRope$Runner" (65 : Nat) "InASackToTheRope$Runner" "wall" "I") ∈ lw_all := lw_g (lw_at lw_m1 84 rfl) rfl
theorem q179 : (Jvm.Cond.fieldLink "InASackToTheRope$Runner" (68 : Nat) "InASackToTheRope$Runner" "seconds" "I") ∈ lw_all := lw_g (lw_at lw_m1 86 rfl) rfl
theorem q180 : (Jvm.Cond.lays "InASackToTheRope$Runner" "InASackToTheRope$Runner" "w" "LInASackToTheRope$Field;") ∈ lw_all := lw_g (lw_at lw_m1 87 rfl) rfl
theorem q181 : (Jvm.Cond.soleField "InASackToTheRope$Runner" "w") ∈ lw_all := lw_g (lw_at lw_m1 88 rfl) rfl
theorem q182 : (Jvm.Cond.lays "InASackToTheRope$Runner" "InASackToTheRope$Runner" "stride" "I") ∈ lw_all := lw_g (lw_at lw_m1 89 rfl) rfl
theorem q183 : (Jvm.Cond.soleField "InASackToTheRope$Runner" "stride") ∈ lw_all := lw_g (lw_at lw_m1 90 rfl) rfl
theorem q184 : (Jvm.Cond.lays "InASackToTheRope$Runner" "InASackToTheRope$Runner" "puff" "I") ∈ lw_all := lw_g (lw_at lw_m1 91 rfl) rfl
theorem q185 : (Jvm.Cond.soleField "InASackToTheRope$Runner" "puff") ∈ lw_all := lw_g (lw_at lw_m1 92 rfl) rfl
theorem q186 : (Jvm.Cond.lays "InASackToTheRope$Runner" "InASackToTheRope$Runner" "risk" "I") ∈ lw_all := lw_g (lw_at lw_m1 93 rfl) rfl
theorem q187 : (Jvm.Cond.soleField "InASackToTheRope$Runner" "risk") ∈ lw_all := lw_g (lw_at lw_m1 94 rfl) rfl
theorem q188 : (Jvm.Cond.lays "InASackToTheRope$Runner" "InASackToTheRope$Runner" "late" "I") ∈ lw_all := lw_g (lw_at lw_m1 95 rfl) rfl
theorem q189 : (Jvm.Cond.soleField "InASackToTheRope$Runner" "late") ∈ lw_all := lw_g (lw_at lw_m1 96 rfl) rfl
theorem q190 : (Jvm.Cond.lays "InASackToTheRope$Runner" "InASackToTheRope$Runner" "at" "I") ∈ lw_all := lw_g (lw_at lw_m1 97 rfl) rfl
theorem q191 : (Jvm.Cond.soleField "InASackToTheRope$Runner" "at") ∈ lw_all := lw_g (lw_at lw_m1 98 rfl) rfl
theorem q192 : (Jvm.Cond.lays "InASackToTheRope$Runner" "InASackToTheRope$Runner" "breath" "I") ∈ lw_all := lw_g (lw_at lw_m1 99 rfl) rfl
theorem q193 : (Jvm.Cond.soleField "InASackToTheRope$Runner" "breath") ∈ lw_all := lw_g (lw_at lw_m1 100 rfl) rfl
theorem q194 : (Jvm.Cond.lays "InASackToTheRope$Runner" "InASackToTheRope$Runner" "wobble" "I") ∈ lw_all := lw_g (lw_at lw_m1 101 rfl) rfl
theorem q195 : (Jvm.Cond.soleField "InASackToTheRope$Runner" "wobble") ∈ lw_all := lw_g (lw_at lw_m1 102 rfl) rfl
theorem q196 : (Jvm.Cond.lays "InASackToTheRope$Runner" "InASackToTheRope$Runner" "down" "I") ∈ lw_all := lw_g (lw_at lw_m1 103 rfl) rfl
theorem q197 : (Jvm.Cond.soleField "InASackToTheRope$Runner" "down") ∈ lw_all := lw_g (lw_at lw_m1 104 rfl) rfl
theorem q198 : (Jvm.Cond.lays "InASackToTheRope$Runner" "InASackToTheRope$Runner" "falls" "I") ∈ lw_all := lw_g (lw_at lw_m1 105 rfl) rfl
theorem q199 : (Jvm.Cond.soleField "InASackToTheRope$Runner" "falls") ∈ lw_all := lw_g (lw_at lw_m1 106 rfl) rfl
theorem q200 : (Jvm.Cond.lays "InASackToTheRope$Runner" "InASackToTheRope$Runner" "wall" "I") ∈ lw_all := lw_g (lw_at lw_m1 107 rfl) rfl
theorem q201 : (Jvm.Cond.soleField "InASackToTheRope$Runner" "wall") ∈ lw_all := lw_g (lw_at lw_m1 108 rfl) rfl
theorem q202 : (Jvm.Cond.lays "InASackToTheRope$Runner" "InASackToTheRope$Runner" "seconds" "I") ∈ lw_all := lw_g (lw_at lw_m1 109 rfl) rfl
theorem q203 : (Jvm.Cond.soleField "InASackToTheRope$Runner" "seconds") ∈ lw_all := lw_g (lw_at lw_m1 110 rfl) rfl
theorem q204 : (Jvm.Cond.superclass "InASackToTheRope$Runner" "java/lang/Object") ∈ lw_all := lw_g (lw_at lw_m1 111 rfl) rfl
theorem q261 : (Jvm.Cond.fieldLink "InASackToTheRope$Runner" (109 : Nat) "InASackToTheRope$Field" "rolling" "Z") ∈ lw_all := lw_g (lw_at lw_m1 168 rfl) rfl
theorem q266 : (Jvm.Cond.fieldLink "InASackToTheRope$Runner" (36 : Nat) "InASackToTheRope$Field" "asked" "[I") ∈ lw_all := lw_g (lw_at lw_m1 173 rfl) rfl
theorem q270 : (Jvm.Cond.fieldLink "InASackToTheRope$Runner" (88 : Nat) "InASackToTheRope$Field" "children" "[LInASackToTheRope$Hopper;") ∈ lw_all := lw_g (lw_at lw_m1 177 rfl) rfl
theorem q274 : (Jvm.Cond.fieldLink "InASackToTheRope$Runner" (71 : Nat) "InASackToTheRope$Field" "legs" "[I") ∈ lw_all := lw_g (lw_at lw_m1 181 rfl) rfl
theorem q278 : (Jvm.Cond.fieldLink "InASackToTheRope$Runner" (92 : Nat) "InASackToTheRope$Field" "worn" "[I") ∈ lw_all := lw_g (lw_at lw_m1 185 rfl) rfl
theorem q282 : (Jvm.Cond.fieldLink "InASackToTheRope$Runner" (81 : Nat) "InASackToTheRope$Field" "ahead" "[I") ∈ lw_all := lw_g (lw_at lw_m1 189 rfl) rfl
theorem q1137 : (Jvm.Cond.instanceMethod ({ cls := "InASackToTheRope$Runner", name := "of", desc := "(LInASackToTheRope$Field;I)LInASackToTheRope$Runner;" } : Jvm.MethodName)) ∈ lw_all := lw_g (lw_at lw_m5 84 rfl) rfl
theorem q1138 : (Jvm.Cond.selects "InASackToTheRope$Runner" ({ cls := "InASackToTheRope$Runner", name := "of", desc := "(LInASackToTheRope$Field;I)LInASackToTheRope$Runner;" } : Jvm.MethodName) ({ cls := "InASackToTheRope$Runner", name := "of", desc := "(LInASackToTheRope$Field;I)LInASackToTheRope$Runner;" } : Jvm.MethodName)) ∈ lw_all := lw_g (lw_at lw_m5 85 rfl) rfl
theorem q1139 : (Jvm.Cond.code ({ cls := "InASackToTheRope$Runner", name := "of", desc := "(LInASackToTheRope$Field;I)LInASackToTheRope$Runner;" } : Jvm.MethodName) prog_16_method_4_code (3 : Nat) (Option.some (Jvm.ClassFile.FieldType.object "InASackToTheRope$Runner"))) ∈ lw_all := lw_g (lw_at lw_m5 86 rfl) rfl
theorem q1140 : (Jvm.Cond.methodLink "InASackToTheRope$Runner" (95 : Nat) ({ cls := "InASackToTheRope$Runner", name := "ofKind", desc := "(LInASackToTheRope$Field;LInASackToTheRope$Hopper;II)LInASackToTheRope$Runner;" } : Jvm.MethodName)) ∈ lw_all := lw_g (lw_at lw_m5 87 rfl) rfl
theorem q1141 : (Jvm.Cond.instanceMethod ({ cls := "InASackToTheRope$Runner", name := "ofKind", desc := "(LInASackToTheRope$Field;LInASackToTheRope$Hopper;II)LInASackToTheRope$Runner;" } : Jvm.MethodName)) ∈ lw_all := lw_g (lw_at lw_m5 88 rfl) rfl
theorem q1142 : (Jvm.Cond.selects "InASackToTheRope$Runner" ({ cls := "InASackToTheRope$Runner", name := "ofKind", desc := "(LInASackToTheRope$Field;LInASackToTheRope$Hopper;II)LInASackToTheRope$Runner;" } : Jvm.MethodName) ({ cls := "InASackToTheRope$Runner", name := "ofKind", desc := "(LInASackToTheRope$Field;LInASackToTheRope$Hopper;II)LInASackToTheRope$Runner;" } : Jvm.MethodName)) ∈ lw_all := lw_g (lw_at lw_m5 89 rfl) rfl
theorem q1143 : (Jvm.Cond.code ({ cls := "InASackToTheRope$Runner", name := "ofKind", desc := "(LInASackToTheRope$Field;LInASackToTheRope$Hopper;II)LInASackToTheRope$Runner;" } : Jvm.MethodName) prog_16_method_3_code (5 : Nat) (Option.some (Jvm.ClassFile.FieldType.object "InASackToTheRope$Runner"))) ∈ lw_all := lw_g (lw_at lw_m5 90 rfl) rfl
theorem q1144 : (Jvm.Cond.methodLink "InASackToTheRope$Runner" (74 : Nat) ({ cls := "InASackToTheRope$Field", name := "slackIn", desc := "(II)I" } : Jvm.MethodName)) ∈ lw_all := lw_g (lw_at lw_m5 91 rfl) rfl
theorem q1145 : (Jvm.Cond.methodLink "InASackToTheRope$Runner" (77 : Nat) ({ cls := "InASackToTheRope$Field", name := "holesIn", desc := "(I)I" } : Jvm.MethodName)) ∈ lw_all := lw_g (lw_at lw_m5 92 rfl) rfl
theorem q1146 : (Jvm.Cond.methodLink "InASackToTheRope$Runner" (84 : Nat) ({ cls := "InASackToTheRope$Runner", name := "begins", desc := "(LInASackToTheRope$Field;LInASackToTheRope$Hopper;IIII)LInASackToTheRope$Runner;" } : Jvm.MethodName)) ∈ lw_all := lw_g (lw_at lw_m5 93 rfl) rfl
theorem q1147 : (Jvm.Cond.privateMethod ({ cls := "InASackToTheRope$Runner", name := "begins", desc := "(LInASackToTheRope$Field;LInASackToTheRope$Hopper;IIII)LInASackToTheRope$Runner;" } : Jvm.MethodName)) ∈ lw_tbl := lw_at lw_m5 94 rfl
theorem q1148 : (Jvm.Cond.instanceMethod ({ cls := "InASackToTheRope$Runner", name := "begins", desc := "(LInASackToTheRope$Field;LInASackToTheRope$Hopper;IIII)LInASackToTheRope$Runner;" } : Jvm.MethodName)) ∈ lw_all := lw_g (lw_at lw_m5 95 rfl) rfl
theorem q1149 : (Jvm.Cond.code ({ cls := "InASackToTheRope$Runner", name := "begins", desc := "(LInASackToTheRope$Field;LInASackToTheRope$Hopper;IIII)LInASackToTheRope$Runner;" } : Jvm.MethodName) prog_16_method_2_code (7 : Nat) (Option.some (Jvm.ClassFile.FieldType.object "InASackToTheRope$Runner"))) ∈ lw_all := lw_g (lw_at lw_m5 96 rfl) rfl
theorem q1150 : (Jvm.Cond.methodLink "InASackToTheRope$Runner" (15 : Nat) ({ cls := "InASackToTheRope$Hopper", name := "stride", desc := "(II)I" } : Jvm.MethodName)) ∈ lw_all := lw_g (lw_at lw_m5 97 rfl) rfl
theorem q1151 : (Jvm.Cond.methodLink "InASackToTheRope$Runner" (24 : Nat) ({ cls := "InASackToTheRope$Hopper", name := "puff", desc := "()I" } : Jvm.MethodName)) ∈ lw_all := lw_g (lw_at lw_m5 98 rfl) rfl
theorem q1152 : (Jvm.Cond.methodLink "InASackToTheRope$Runner" (30 : Nat) ({ cls := "InASackToTheRope$Hopper", name := "risk", desc := "(III)I" } : Jvm.MethodName)) ∈ lw_all := lw_g (lw_at lw_m5 99 rfl) rfl
theorem q1153 : (Jvm.Cond.methodLink "InASackToTheRope$Runner" (42 : Nat) ({ cls := "java/lang/Math", name := "max", desc := "(II)I" } : Jvm.MethodName)) ∈ lw_all := lw_g (lw_at lw_m5 100 rfl) rfl
theorem q1155 : (Jvm.Cond.instanceMethod ({ cls := "InASackToTheRope$Runner", name := "passesMany", desc := "(I)LInASackToTheRope$Runner;" } : Jvm.MethodName)) ∈ lw_all := lw_g (lw_at lw_m5 102 rfl) rfl
theorem q1156 : (Jvm.Cond.selects "InASackToTheRope$Runner" ({ cls := "InASackToTheRope$Runner", name := "passesMany", desc := "(I)LInASackToTheRope$Runner;" } : Jvm.MethodName) ({ cls := "InASackToTheRope$Runner", name := "passesMany", desc := "(I)LInASackToTheRope$Runner;" } : Jvm.MethodName)) ∈ lw_all := lw_g (lw_at lw_m5 103 rfl) rfl
theorem q1157 : (Jvm.Cond.code ({ cls := "InASackToTheRope$Runner", name := "passesMany", desc := "(I)LInASackToTheRope$Runner;" } : Jvm.MethodName) prog_16_method_14_code (3 : Nat) (Option.some (Jvm.ClassFile.FieldType.object "InASackToTheRope$Runner"))) ∈ lw_all := lw_g (lw_at lw_m5 104 rfl) rfl
theorem q1158 : (Jvm.Cond.methodLink "InASackToTheRope$Runner" (129 : Nat) ({ cls := "InASackToTheRope$Runner", name := "isThere", desc := "()Z" } : Jvm.MethodName)) ∈ lw_all := lw_g (lw_at lw_m5 105 rfl) rfl
theorem q1159 : (Jvm.Cond.instanceMethod ({ cls := "InASackToTheRope$Runner", name := "isThere", desc := "()Z" } : Jvm.MethodName)) ∈ lw_all := lw_g (lw_at lw_m5 106 rfl) rfl
theorem q1160 : (Jvm.Cond.selects "InASackToTheRope$Runner" ({ cls := "InASackToTheRope$Runner", name := "isThere", desc := "()Z" } : Jvm.MethodName) ({ cls := "InASackToTheRope$Runner", name := "isThere", desc := "()Z" } : Jvm.MethodName)) ∈ lw_all := lw_g (lw_at lw_m5 107 rfl) rfl
theorem q1161 : (Jvm.Cond.code ({ cls := "InASackToTheRope$Runner", name := "isThere", desc := "()Z" } : Jvm.MethodName) prog_16_method_6_code (1 : Nat) (Option.some Jvm.ClassFile.FieldType.boolean)) ∈ lw_all := lw_g (lw_at lw_m5 108 rfl) rfl
theorem q1162 : (Jvm.Cond.methodLink "InASackToTheRope$Runner" (133 : Nat) ({ cls := "InASackToTheRope$Runner", name := "passes", desc := "()V" } : Jvm.MethodName)) ∈ lw_all := lw_g (lw_at lw_m5 109 rfl) rfl
theorem q1163 : (Jvm.Cond.instanceMethod ({ cls := "InASackToTheRope$Runner", name := "passes", desc := "()V" } : Jvm.MethodName)) ∈ lw_all := lw_g (lw_at lw_m5 110 rfl) rfl
theorem q1164 : (Jvm.Cond.selects "InASackToTheRope$Runner" ({ cls := "InASackToTheRope$Runner", name := "passes", desc := "()V" } : Jvm.MethodName) ({ cls := "InASackToTheRope$Runner", name := "passes", desc := "()V" } : Jvm.MethodName)) ∈ lw_all := lw_g (lw_at lw_m5 111 rfl) rfl
theorem q1165 : (Jvm.Cond.code ({ cls := "InASackToTheRope$Runner", name := "passes", desc := "()V" } : Jvm.MethodName) prog_16_method_12_code (2 : Nat) (Option.none : Option Jvm.ClassFile.FieldType)) ∈ lw_all := lw_g (lw_at lw_m5 112 rfl) rfl
theorem q1166 : (Jvm.Cond.methodLink "InASackToTheRope$Runner" (113 : Nat) ({ cls := "InASackToTheRope$Runner", name := "lies", desc := "()V" } : Jvm.MethodName)) ∈ lw_all := lw_g (lw_at lw_m5 113 rfl) rfl
theorem q1167 : (Jvm.Cond.privateMethod ({ cls := "InASackToTheRope$Runner", name := "lies", desc := "()V" } : Jvm.MethodName)) ∈ lw_tbl := lw_at lw_m5 114 rfl
theorem q1168 : (Jvm.Cond.instanceMethod ({ cls := "InASackToTheRope$Runner", name := "lies", desc := "()V" } : Jvm.MethodName)) ∈ lw_all := lw_g (lw_at lw_m5 115 rfl) rfl
theorem q1169 : (Jvm.Cond.code ({ cls := "InASackToTheRope$Runner", name := "lies", desc := "()V" } : Jvm.MethodName) prog_16_method_9_code (1 : Nat) (Option.none : Option Jvm.ClassFile.FieldType)) ∈ lw_all := lw_g (lw_at lw_m5 116 rfl) rfl
theorem q1170 : (Jvm.Cond.methodLink "InASackToTheRope$Runner" (105 : Nat) ({ cls := "InASackToTheRope$Runner", name := "mends", desc := "(I)V" } : Jvm.MethodName)) ∈ lw_all := lw_g (lw_at lw_m5 117 rfl) rfl
theorem q1171 : (Jvm.Cond.privateMethod ({ cls := "InASackToTheRope$Runner", name := "mends", desc := "(I)V" } : Jvm.MethodName)) ∈ lw_tbl := lw_at lw_m5 118 rfl
theorem q1172 : (Jvm.Cond.instanceMethod ({ cls := "InASackToTheRope$Runner", name := "mends", desc := "(I)V" } : Jvm.MethodName)) ∈ lw_all := lw_g (lw_at lw_m5 119 rfl) rfl
theorem q1173 : (Jvm.Cond.code ({ cls := "InASackToTheRope$Runner", name := "mends", desc := "(I)V" } : Jvm.MethodName) prog_16_method_8_code (2 : Nat) (Option.none : Option Jvm.ClassFile.FieldType)) ∈ lw_all := lw_g (lw_at lw_m5 120 rfl) rfl
theorem q1174 : (Jvm.Cond.methodLink "InASackToTheRope$Runner" (99 : Nat) ({ cls := "java/lang/Math", name := "min", desc := "(II)I" } : Jvm.MethodName)) ∈ lw_all := lw_g (lw_at lw_m5 121 rfl) rfl
theorem q1177 : (Jvm.Cond.methodLink "InASackToTheRope$Runner" (116 : Nat) ({ cls := "InASackToTheRope$Runner", name := "riskNow", desc := "()I" } : Jvm.MethodName)) ∈ lw_all := lw_g (lw_at lw_m5 124 rfl) rfl
theorem q1178 : (Jvm.Cond.privateMethod ({ cls := "InASackToTheRope$Runner", name := "riskNow", desc := "()I" } : Jvm.MethodName)) ∈ lw_tbl := lw_at lw_m5 125 rfl
theorem q1179 : (Jvm.Cond.instanceMethod ({ cls := "InASackToTheRope$Runner", name := "riskNow", desc := "()I" } : Jvm.MethodName)) ∈ lw_all := lw_g (lw_at lw_m5 126 rfl) rfl
theorem q1180 : (Jvm.Cond.code ({ cls := "InASackToTheRope$Runner", name := "riskNow", desc := "()I" } : Jvm.MethodName) prog_16_method_7_code (1 : Nat) (Option.some Jvm.ClassFile.FieldType.int)) ∈ lw_all := lw_g (lw_at lw_m5 127 rfl) rfl
theorem q1181 : (Jvm.Cond.methodLink "InASackToTheRope$Runner" (119 : Nat) ({ cls := "InASackToTheRope$Runner", name := "puffs", desc := "()V" } : Jvm.MethodName)) ∈ lw_all := lw_g (lw_at lw_m5 128 rfl) rfl
theorem q1182 : (Jvm.Cond.privateMethod ({ cls := "InASackToTheRope$Runner", name := "puffs", desc := "()V" } : Jvm.MethodName)) ∈ lw_tbl := lw_at lw_m5 129 rfl
theorem q1183 : (Jvm.Cond.instanceMethod ({ cls := "InASackToTheRope$Runner", name := "puffs", desc := "()V" } : Jvm.MethodName)) ∈ lw_all := lw_g (lw_at lw_m5 130 rfl) rfl
theorem q1184 : (Jvm.Cond.code ({ cls := "InASackToTheRope$Runner", name := "puffs", desc := "()V" } : Jvm.MethodName) prog_16_method_10_code (1 : Nat) (Option.none : Option Jvm.ClassFile.FieldType)) ∈ lw_all := lw_g (lw_at lw_m5 131 rfl) rfl
theorem q1185 : (Jvm.Cond.methodLink "InASackToTheRope$Runner" (122 : Nat) ({ cls := "InASackToTheRope$Runner", name := "goes", desc := "(Z)V" } : Jvm.MethodName)) ∈ lw_all := lw_g (lw_at lw_m5 132 rfl) rfl
theorem q1186 : (Jvm.Cond.privateMethod ({ cls := "InASackToTheRope$Runner", name := "goes", desc := "(Z)V" } : Jvm.MethodName)) ∈ lw_tbl := lw_at lw_m5 133 rfl
theorem q1187 : (Jvm.Cond.instanceMethod ({ cls := "InASackToTheRope$Runner", name := "goes", desc := "(Z)V" } : Jvm.MethodName)) ∈ lw_all := lw_g (lw_at lw_m5 134 rfl) rfl
theorem q1188 : (Jvm.Cond.code ({ cls := "InASackToTheRope$Runner", name := "goes", desc := "(Z)V" } : Jvm.MethodName) prog_16_method_11_code (2 : Nat) (Option.none : Option Jvm.ClassFile.FieldType)) ∈ lw_all := lw_g (lw_at lw_m5 135 rfl) rfl
theorem q1198 : (Jvm.Cond.instanceMethod ({ cls := "InASackToTheRope$Runner", name := "comesIn", desc := "()I" } : Jvm.MethodName)) ∈ lw_all := lw_g (lw_at lw_m5 145 rfl) rfl
theorem q1199 : (Jvm.Cond.selects "InASackToTheRope$Runner" ({ cls := "InASackToTheRope$Runner", name := "comesIn", desc := "()I" } : Jvm.MethodName) ({ cls := "InASackToTheRope$Runner", name := "comesIn", desc := "()I" } : Jvm.MethodName)) ∈ lw_all := lw_g (lw_at lw_m5 146 rfl) rfl
theorem q1200 : (Jvm.Cond.code ({ cls := "InASackToTheRope$Runner", name := "comesIn", desc := "()I" } : Jvm.MethodName) prog_16_method_16_code (1 : Nat) (Option.some Jvm.ClassFile.FieldType.int)) ∈ lw_all := lw_g (lw_at lw_m5 147 rfl) rfl
theorem q1201 : (Jvm.Cond.methodLink "InASackToTheRope$Runner" (136 : Nat) ({ cls := "InASackToTheRope$Runner", name := "passesMany", desc := "(I)LInASackToTheRope$Runner;" } : Jvm.MethodName)) ∈ lw_all := lw_g (lw_at lw_m5 148 rfl) rfl
theorem q1202 : (Jvm.Cond.methodLink "InASackToTheRope$Runner" (140 : Nat) ({ cls := "InASackToTheRope$Runner", name := "time", desc := "()I" } : Jvm.MethodName)) ∈ lw_all := lw_g (lw_at lw_m5 149 rfl) rfl
theorem q1203 : (Jvm.Cond.instanceMethod ({ cls := "InASackToTheRope$Runner", name := "time", desc := "()I" } : Jvm.MethodName)) ∈ lw_all := lw_g (lw_at lw_m5 150 rfl) rfl
theorem q1204 : (Jvm.Cond.selects "InASackToTheRope$Runner" ({ cls := "InASackToTheRope$Runner", name := "time", desc := "()I" } : Jvm.MethodName) ({ cls := "InASackToTheRope$Runner", name := "time", desc := "()I" } : Jvm.MethodName)) ∈ lw_all := lw_g (lw_at lw_m5 151 rfl) rfl
theorem q1205 : (Jvm.Cond.code ({ cls := "InASackToTheRope$Runner", name := "time", desc := "()I" } : Jvm.MethodName) prog_16_method_15_code (1 : Nat) (Option.some Jvm.ClassFile.FieldType.int)) ∈ lw_all := lw_g (lw_at lw_m5 152 rfl) rfl
theorem q1277 : (Jvm.Cond.instanceMethod ({ cls := "InASackToTheRope$Runner", name := "ofTwo", desc := "(LInASackToTheRope$Field;III)LInASackToTheRope$Runner;" } : Jvm.MethodName)) ∈ lw_all := lw_g (lw_at lw_m5 224 rfl) rfl
theorem q1278 : (Jvm.Cond.selects "InASackToTheRope$Runner" ({ cls := "InASackToTheRope$Runner", name := "ofTwo", desc := "(LInASackToTheRope$Field;III)LInASackToTheRope$Runner;" } : Jvm.MethodName) ({ cls := "InASackToTheRope$Runner", name := "ofTwo", desc := "(LInASackToTheRope$Field;III)LInASackToTheRope$Runner;" } : Jvm.MethodName)) ∈ lw_all := lw_g (lw_at lw_m5 225 rfl) rfl
theorem q1279 : (Jvm.Cond.code ({ cls := "InASackToTheRope$Runner", name := "ofTwo", desc := "(LInASackToTheRope$Field;III)LInASackToTheRope$Runner;" } : Jvm.MethodName) prog_16_method_5_code (7 : Nat) (Option.some (Jvm.ClassFile.FieldType.object "InASackToTheRope$Runner"))) ∈ lw_all := lw_g (lw_at lw_m5 226 rfl) rfl
theorem q1280 : (Jvm.Cond.methodLink "InASackToTheRope$Runner" (102 : Nat) ({ cls := "java/lang/Math", name := "abs", desc := "(I)I" } : Jvm.MethodName)) ∈ lw_all := lw_g (lw_at lw_m5 227 rfl) rfl
theorem q1351 : (Jvm.Cond.instanceMethod ({ cls := "InASackToTheRope$Runner", name := "passesDrawn", desc := "()V" } : Jvm.MethodName)) ∈ lw_all := lw_g (lw_at lw_m6 58 rfl) rfl
theorem q1352 : (Jvm.Cond.selects "InASackToTheRope$Runner" ({ cls := "InASackToTheRope$Runner", name := "passesDrawn", desc := "()V" } : Jvm.MethodName) ({ cls := "InASackToTheRope$Runner", name := "passesDrawn", desc := "()V" } : Jvm.MethodName)) ∈ lw_all := lw_g (lw_at lw_m6 59 rfl) rfl
theorem q1353 : (Jvm.Cond.code ({ cls := "InASackToTheRope$Runner", name := "passesDrawn", desc := "()V" } : Jvm.MethodName) prog_16_method_13_code (2 : Nat) (Option.none : Option Jvm.ClassFile.FieldType)) ∈ lw_all := lw_g (lw_at lw_m6 60 rfl) rfl
theorem q1354 : (Jvm.Cond.methodLink "InASackToTheRope$Runner" (126 : Nat) ({ cls := "InASackToTheRope$Field", name := "draw", desc := "(I)I" } : Jvm.MethodName)) ∈ lw_all := lw_g (lw_at lw_m6 61 rfl) rfl
theorem in_X2 : ∀ w ∈ wsX20, w ∈ lw_all := lw_in wsX20 [180, 182, 184, 186, 188, 190, 192, 194, 196, 198, 200, 202] (by decide +kernel) (by decide +kernel)
/-! InASackToTheRope$Reader -/
set_option maxRecDepth 100000
def RX20 : String := "InASackToTheRope$Reader"
def TX20 : u_T := fun k => match k with
  | 0 => ("InASackToTheRope$Reader", "text", "LInASackToTheRope$Row;", true)
  | 1 => ("InASackToTheRope$Reader", "w", "LInASackToTheRope$Field;", true)
  | 2 => ("InASackToTheRope$Reader", "at", "I", false)
  | _ => ("InASackToTheRope$Reader", "place", "I", false)
def tyX20 : Nat → FieldType := fun k => match k with
  | 0 => .object "InASackToTheRope$Row"
  | 1 => .object "InASackToTheRope$Field"
  | 2 => .int
  | _ => .int
abbrev wsX200 : List Cond := u_ws RX20 TX20 4
theorem nmX20 : ∀ a, a < 4 → ∀ b, b < 4 → a ≠ b → (TX20 a).2.1 ≠ (TX20 b).2.1 := by decide +kernel
theorem tyX20_ok : ∀ k, k < 4 → parseFieldDescriptor (TX20 k).2.2.1 = some (tyX20 k) := by decide +kernel
abbrev cX20_init : ByteArray := prog_13_method_1_code
def yX20_init : MethodName := ⟨RX20, "<init>", "(LInASackToTheRope$Row;LInASackToTheRope$Field;)V"⟩
def dkwX20_init_0 : List UInt8 := [42, 183, 0, 3, 42, 43, 181, 0, 9, 42, 44, 181, 0, 15, 177]
abbrev dktX20_init_0 : List UInt8 := dkwX20_init_0 ++ []
theorem dksX20_init_0 : cX20_init.data.toList.drop 0 = dktX20_init_0 := by decide +kernel
theorem dX20_init_0 : decode cX20_init 0 = .ok (.aload_n 0, 1) := dk_42 (dk_at dksX20_init_0 0 rfl rfl)
theorem dX20_init_1 : decode cX20_init 1 = .ok (.invokespecial 3, 3) := dk_183 0 3 (dk_at dksX20_init_0 1 rfl rfl)
theorem dX20_init_4 : decode cX20_init 4 = .ok (.aload_n 0, 1) := dk_42 (dk_at dksX20_init_0 4 rfl rfl)
theorem dX20_init_5 : decode cX20_init 5 = .ok (.aload_n 1, 1) := dk_43 (dk_at dksX20_init_0 5 rfl rfl)
theorem dX20_init_6 : decode cX20_init 6 = .ok (.putfield 9, 3) := dk_181 0 9 (dk_at dksX20_init_0 6 rfl rfl)
theorem dX20_init_9 : decode cX20_init 9 = .ok (.aload_n 0, 1) := dk_42 (dk_at dksX20_init_0 9 rfl rfl)
theorem dX20_init_10 : decode cX20_init 10 = .ok (.aload_n 2, 1) := dk_44 (dk_at dksX20_init_0 10 rfl rfl)
theorem dX20_init_11 : decode cX20_init 11 = .ok (.putfield 15, 3) := dk_181 0 15 (dk_at dksX20_init_0 11 rfl rfl)
theorem dX20_init_14 : decode cX20_init 14 = .ok (.return_, 1) := dk_177 (dk_at dksX20_init_0 14 rfl rfl)
abbrev cX20_items : ByteArray := prog_13_method_9_code
def yX20_items : MethodName := ⟨RX20, "items", "()I"⟩
def dkwX20_items_1 : List UInt8 := [132, 1, 1, 167, 255, 236, 27, 172]
abbrev dktX20_items_1 : List UInt8 := dkwX20_items_1 ++ []
def dkwX20_items_0 : List UInt8 := [4, 60, 42, 182, 0, 66, 42, 182, 0, 29, 154, 0, 19, 42, 16, 59, 182, 0, 53, 42, 182, 0, 66]
abbrev dktX20_items_0 : List UInt8 := dkwX20_items_0 ++ dktX20_items_1
theorem dksX20_items_0 : cX20_items.data.toList.drop 0 = dktX20_items_0 := by decide +kernel
theorem dksX20_items_1 : cX20_items.data.toList.drop 23 = dktX20_items_1 := dk_seg dksX20_items_0 23 rfl rfl
theorem dX20_items_0 : decode cX20_items 0 = .ok (.iconst 1, 1) := dk_4 (dk_at dksX20_items_0 0 rfl rfl)
theorem dX20_items_1 : decode cX20_items 1 = .ok (.istore_n 1, 1) := dk_60 (dk_at dksX20_items_0 1 rfl rfl)
theorem dX20_items_2 : decode cX20_items 2 = .ok (.aload_n 0, 1) := dk_42 (dk_at dksX20_items_0 2 rfl rfl)
theorem dX20_items_3 : decode cX20_items 3 = .ok (.invokevirtual 66, 3) := dk_182 0 66 (dk_at dksX20_items_0 3 rfl rfl)
theorem dX20_items_6 : decode cX20_items 6 = .ok (.aload_n 0, 1) := dk_42 (dk_at dksX20_items_0 6 rfl rfl)
theorem dX20_items_7 : decode cX20_items 7 = .ok (.invokevirtual 29, 3) := dk_182 0 29 (dk_at dksX20_items_0 7 rfl rfl)
theorem dX20_items_10 : decode cX20_items 10 = .ok (.ifCond .ne 19, 3) := dk_154 0 19 (dk_at dksX20_items_0 10 rfl rfl)
theorem dX20_items_13 : decode cX20_items 13 = .ok (.aload_n 0, 1) := dk_42 (dk_at dksX20_items_0 13 rfl rfl)
theorem dX20_items_14 : decode cX20_items 14 = .ok (.bipush 59, 2) := dk_16 59 (dk_at dksX20_items_0 14 rfl rfl)
theorem dX20_items_16 : decode cX20_items 16 = .ok (.invokevirtual 53, 3) := dk_182 0 53 (dk_at dksX20_items_0 16 rfl rfl)
theorem dX20_items_19 : decode cX20_items 19 = .ok (.aload_n 0, 1) := dk_42 (dk_at dksX20_items_0 19 rfl rfl)
theorem dX20_items_20 : decode cX20_items 20 = .ok (.invokevirtual 66, 3) := dk_182 0 66 (dk_at dksX20_items_0 20 rfl rfl)
theorem dX20_items_23 : decode cX20_items 23 = .ok (.iinc 1 1, 3) := dk_132 1 1 (dk_at dksX20_items_1 0 rfl rfl)
theorem dX20_items_26 : decode cX20_items 26 = .ok (.goto (-20), 3) := dk_167 255 236 (dk_at dksX20_items_1 3 rfl rfl)
theorem dX20_items_29 : decode cX20_items 29 = .ok (.iload_n 1, 1) := dk_27 (dk_at dksX20_items_1 6 rfl rfl)
theorem dX20_items_30 : decode cX20_items 30 = .ok (.ireturn, 1) := dk_172 (dk_at dksX20_items_1 7 rfl rfl)
abbrev cX20_item : ByteArray := prog_13_method_14_code
def yX20_item : MethodName := ⟨RX20, "item", "()V"⟩
def dkwX20_item_6 : List UInt8 := [180, 0, 15, 180, 0, 108, 5, 42, 3, 16, 9, 182, 0, 74, 79, 177]
abbrev dktX20_item_6 : List UInt8 := dkwX20_item_6 ++ []
def dkwX20_item_5 : List UInt8 := [180, 0, 108, 4, 42, 4, 16, 20, 182, 0, 74, 79, 167, 0, 25, 42, 18, 126, 182, 0, 80, 42]
abbrev dktX20_item_5 : List UInt8 := dkwX20_item_5 ++ dktX20_item_6
def dkwX20_item_4 : List UInt8 := [167, 0, 59, 42, 16, 117, 182, 0, 37, 153, 0, 28, 42, 18, 124, 182, 0, 80, 42, 180, 0, 15]
abbrev dktX20_item_4 : List UInt8 := dkwX20_item_4 ++ dktX20_item_5
def dkwX20_item_3 : List UInt8 := [182, 0, 80, 42, 182, 0, 99, 61, 42, 180, 0, 15, 180, 0, 122, 28, 42, 3, 16, 99, 182, 0, 74, 79]
abbrev dktX20_item_3 : List UInt8 := dkwX20_item_3 ++ dktX20_item_4
def dkwX20_item_2 : List UInt8 := [153, 0, 10, 42, 182, 0, 117, 167, 0, 98, 42, 16, 97, 182, 0, 37, 153, 0, 33, 42, 18, 120]
abbrev dktX20_item_2 : List UInt8 := dkwX20_item_2 ++ dktX20_item_3
def dkwX20_item_1 : List UInt8 := [16, 115, 182, 0, 37, 153, 0, 11, 42, 27, 182, 0, 115, 167, 0, 114, 42, 16, 119, 182, 0, 37]
abbrev dktX20_item_1 : List UInt8 := dkwX20_item_1 ++ dktX20_item_2
def dkwX20_item_0 : List UInt8 := [42, 180, 0, 19, 60, 42, 16, 99, 182, 0, 37, 153, 0, 11, 42, 27, 182, 0, 113, 167, 0, 131, 42]
abbrev dktX20_item_0 : List UInt8 := dkwX20_item_0 ++ dktX20_item_1
theorem dksX20_item_0 : cX20_item.data.toList.drop 0 = dktX20_item_0 := by decide +kernel
theorem dksX20_item_1 : cX20_item.data.toList.drop 23 = dktX20_item_1 := dk_seg dksX20_item_0 23 rfl rfl
theorem dksX20_item_2 : cX20_item.data.toList.drop 45 = dktX20_item_2 := dk_seg dksX20_item_1 22 rfl rfl
theorem dksX20_item_3 : cX20_item.data.toList.drop 67 = dktX20_item_3 := dk_seg dksX20_item_2 22 rfl rfl
theorem dksX20_item_4 : cX20_item.data.toList.drop 91 = dktX20_item_4 := dk_seg dksX20_item_3 24 rfl rfl
theorem dksX20_item_5 : cX20_item.data.toList.drop 113 = dktX20_item_5 := dk_seg dksX20_item_4 22 rfl rfl
theorem dksX20_item_6 : cX20_item.data.toList.drop 135 = dktX20_item_6 := dk_seg dksX20_item_5 22 rfl rfl
theorem dX20_item_0 : decode cX20_item 0 = .ok (.aload_n 0, 1) := dk_42 (dk_at dksX20_item_0 0 rfl rfl)
theorem dX20_item_1 : decode cX20_item 1 = .ok (.getfield 19, 3) := dk_180 0 19 (dk_at dksX20_item_0 1 rfl rfl)
theorem dX20_item_4 : decode cX20_item 4 = .ok (.istore_n 1, 1) := dk_60 (dk_at dksX20_item_0 4 rfl rfl)
theorem dX20_item_5 : decode cX20_item 5 = .ok (.aload_n 0, 1) := dk_42 (dk_at dksX20_item_0 5 rfl rfl)
theorem dX20_item_6 : decode cX20_item 6 = .ok (.bipush 99, 2) := dk_16 99 (dk_at dksX20_item_0 6 rfl rfl)
theorem dX20_item_8 : decode cX20_item 8 = .ok (.invokevirtual 37, 3) := dk_182 0 37 (dk_at dksX20_item_0 8 rfl rfl)
theorem dX20_item_11 : decode cX20_item 11 = .ok (.ifCond .eq 11, 3) := dk_153 0 11 (dk_at dksX20_item_0 11 rfl rfl)
theorem dX20_item_14 : decode cX20_item 14 = .ok (.aload_n 0, 1) := dk_42 (dk_at dksX20_item_0 14 rfl rfl)
theorem dX20_item_15 : decode cX20_item 15 = .ok (.iload_n 1, 1) := dk_27 (dk_at dksX20_item_0 15 rfl rfl)
theorem dX20_item_16 : decode cX20_item 16 = .ok (.invokevirtual 113, 3) := dk_182 0 113 (dk_at dksX20_item_0 16 rfl rfl)
theorem dX20_item_19 : decode cX20_item 19 = .ok (.goto 131, 3) := dk_167 0 131 (dk_at dksX20_item_0 19 rfl rfl)
theorem dX20_item_22 : decode cX20_item 22 = .ok (.aload_n 0, 1) := dk_42 (dk_at dksX20_item_0 22 rfl rfl)
theorem dX20_item_23 : decode cX20_item 23 = .ok (.bipush 115, 2) := dk_16 115 (dk_at dksX20_item_1 0 rfl rfl)
theorem dX20_item_25 : decode cX20_item 25 = .ok (.invokevirtual 37, 3) := dk_182 0 37 (dk_at dksX20_item_1 2 rfl rfl)
theorem dX20_item_28 : decode cX20_item 28 = .ok (.ifCond .eq 11, 3) := dk_153 0 11 (dk_at dksX20_item_1 5 rfl rfl)
theorem dX20_item_31 : decode cX20_item 31 = .ok (.aload_n 0, 1) := dk_42 (dk_at dksX20_item_1 8 rfl rfl)
theorem dX20_item_32 : decode cX20_item 32 = .ok (.iload_n 1, 1) := dk_27 (dk_at dksX20_item_1 9 rfl rfl)
theorem dX20_item_33 : decode cX20_item 33 = .ok (.invokevirtual 115, 3) := dk_182 0 115 (dk_at dksX20_item_1 10 rfl rfl)
theorem dX20_item_36 : decode cX20_item 36 = .ok (.goto 114, 3) := dk_167 0 114 (dk_at dksX20_item_1 13 rfl rfl)
theorem dX20_item_39 : decode cX20_item 39 = .ok (.aload_n 0, 1) := dk_42 (dk_at dksX20_item_1 16 rfl rfl)
theorem dX20_item_40 : decode cX20_item 40 = .ok (.bipush 119, 2) := dk_16 119 (dk_at dksX20_item_1 17 rfl rfl)
theorem dX20_item_42 : decode cX20_item 42 = .ok (.invokevirtual 37, 3) := dk_182 0 37 (dk_at dksX20_item_1 19 rfl rfl)
theorem dX20_item_45 : decode cX20_item 45 = .ok (.ifCond .eq 10, 3) := dk_153 0 10 (dk_at dksX20_item_2 0 rfl rfl)
theorem dX20_item_48 : decode cX20_item 48 = .ok (.aload_n 0, 1) := dk_42 (dk_at dksX20_item_2 3 rfl rfl)
theorem dX20_item_49 : decode cX20_item 49 = .ok (.invokevirtual 117, 3) := dk_182 0 117 (dk_at dksX20_item_2 4 rfl rfl)
theorem dX20_item_52 : decode cX20_item 52 = .ok (.goto 98, 3) := dk_167 0 98 (dk_at dksX20_item_2 7 rfl rfl)
theorem dX20_item_55 : decode cX20_item 55 = .ok (.aload_n 0, 1) := dk_42 (dk_at dksX20_item_2 10 rfl rfl)
theorem dX20_item_56 : decode cX20_item 56 = .ok (.bipush 97, 2) := dk_16 97 (dk_at dksX20_item_2 11 rfl rfl)
theorem dX20_item_58 : decode cX20_item 58 = .ok (.invokevirtual 37, 3) := dk_182 0 37 (dk_at dksX20_item_2 13 rfl rfl)
theorem dX20_item_61 : decode cX20_item 61 = .ok (.ifCond .eq 33, 3) := dk_153 0 33 (dk_at dksX20_item_2 16 rfl rfl)
theorem dX20_item_64 : decode cX20_item 64 = .ok (.aload_n 0, 1) := dk_42 (dk_at dksX20_item_2 19 rfl rfl)
theorem dX20_item_65 : decode cX20_item 65 = .ok (.ldc 120, 2) := dk_18 120 (dk_at dksX20_item_2 20 rfl rfl)
theorem dX20_item_67 : decode cX20_item 67 = .ok (.invokevirtual 80, 3) := dk_182 0 80 (dk_at dksX20_item_3 0 rfl rfl)
theorem dX20_item_70 : decode cX20_item 70 = .ok (.aload_n 0, 1) := dk_42 (dk_at dksX20_item_3 3 rfl rfl)
theorem dX20_item_71 : decode cX20_item 71 = .ok (.invokevirtual 99, 3) := dk_182 0 99 (dk_at dksX20_item_3 4 rfl rfl)
theorem dX20_item_74 : decode cX20_item 74 = .ok (.istore_n 2, 1) := dk_61 (dk_at dksX20_item_3 7 rfl rfl)
theorem dX20_item_75 : decode cX20_item 75 = .ok (.aload_n 0, 1) := dk_42 (dk_at dksX20_item_3 8 rfl rfl)
theorem dX20_item_76 : decode cX20_item 76 = .ok (.getfield 15, 3) := dk_180 0 15 (dk_at dksX20_item_3 9 rfl rfl)
theorem dX20_item_79 : decode cX20_item 79 = .ok (.getfield 122, 3) := dk_180 0 122 (dk_at dksX20_item_3 12 rfl rfl)
theorem dX20_item_82 : decode cX20_item 82 = .ok (.iload_n 2, 1) := dk_28 (dk_at dksX20_item_3 15 rfl rfl)
theorem dX20_item_83 : decode cX20_item 83 = .ok (.aload_n 0, 1) := dk_42 (dk_at dksX20_item_3 16 rfl rfl)
theorem dX20_item_84 : decode cX20_item 84 = .ok (.iconst 0, 1) := dk_3 (dk_at dksX20_item_3 17 rfl rfl)
theorem dX20_item_85 : decode cX20_item 85 = .ok (.bipush 99, 2) := dk_16 99 (dk_at dksX20_item_3 18 rfl rfl)
theorem dX20_item_87 : decode cX20_item 87 = .ok (.invokevirtual 74, 3) := dk_182 0 74 (dk_at dksX20_item_3 20 rfl rfl)
theorem dX20_item_90 : decode cX20_item 90 = .ok (.iastore, 1) := dk_79 (dk_at dksX20_item_3 23 rfl rfl)
theorem dX20_item_91 : decode cX20_item 91 = .ok (.goto 59, 3) := dk_167 0 59 (dk_at dksX20_item_4 0 rfl rfl)
theorem dX20_item_94 : decode cX20_item 94 = .ok (.aload_n 0, 1) := dk_42 (dk_at dksX20_item_4 3 rfl rfl)
theorem dX20_item_95 : decode cX20_item 95 = .ok (.bipush 117, 2) := dk_16 117 (dk_at dksX20_item_4 4 rfl rfl)
theorem dX20_item_97 : decode cX20_item 97 = .ok (.invokevirtual 37, 3) := dk_182 0 37 (dk_at dksX20_item_4 6 rfl rfl)
theorem dX20_item_100 : decode cX20_item 100 = .ok (.ifCond .eq 28, 3) := dk_153 0 28 (dk_at dksX20_item_4 9 rfl rfl)
theorem dX20_item_103 : decode cX20_item 103 = .ok (.aload_n 0, 1) := dk_42 (dk_at dksX20_item_4 12 rfl rfl)
theorem dX20_item_104 : decode cX20_item 104 = .ok (.ldc 124, 2) := dk_18 124 (dk_at dksX20_item_4 13 rfl rfl)
theorem dX20_item_106 : decode cX20_item 106 = .ok (.invokevirtual 80, 3) := dk_182 0 80 (dk_at dksX20_item_4 15 rfl rfl)
theorem dX20_item_109 : decode cX20_item 109 = .ok (.aload_n 0, 1) := dk_42 (dk_at dksX20_item_4 18 rfl rfl)
theorem dX20_item_110 : decode cX20_item 110 = .ok (.getfield 15, 3) := dk_180 0 15 (dk_at dksX20_item_4 19 rfl rfl)
theorem dX20_item_113 : decode cX20_item 113 = .ok (.getfield 108, 3) := dk_180 0 108 (dk_at dksX20_item_5 0 rfl rfl)
theorem dX20_item_116 : decode cX20_item 116 = .ok (.iconst 1, 1) := dk_4 (dk_at dksX20_item_5 3 rfl rfl)
theorem dX20_item_117 : decode cX20_item 117 = .ok (.aload_n 0, 1) := dk_42 (dk_at dksX20_item_5 4 rfl rfl)
theorem dX20_item_118 : decode cX20_item 118 = .ok (.iconst 1, 1) := dk_4 (dk_at dksX20_item_5 5 rfl rfl)
theorem dX20_item_119 : decode cX20_item 119 = .ok (.bipush 20, 2) := dk_16 20 (dk_at dksX20_item_5 6 rfl rfl)
theorem dX20_item_121 : decode cX20_item 121 = .ok (.invokevirtual 74, 3) := dk_182 0 74 (dk_at dksX20_item_5 8 rfl rfl)
theorem dX20_item_124 : decode cX20_item 124 = .ok (.iastore, 1) := dk_79 (dk_at dksX20_item_5 11 rfl rfl)
theorem dX20_item_125 : decode cX20_item 125 = .ok (.goto 25, 3) := dk_167 0 25 (dk_at dksX20_item_5 12 rfl rfl)
theorem dX20_item_128 : decode cX20_item 128 = .ok (.aload_n 0, 1) := dk_42 (dk_at dksX20_item_5 15 rfl rfl)
theorem dX20_item_129 : decode cX20_item 129 = .ok (.ldc 126, 2) := dk_18 126 (dk_at dksX20_item_5 16 rfl rfl)
theorem dX20_item_131 : decode cX20_item 131 = .ok (.invokevirtual 80, 3) := dk_182 0 80 (dk_at dksX20_item_5 18 rfl rfl)
theorem dX20_item_134 : decode cX20_item 134 = .ok (.aload_n 0, 1) := dk_42 (dk_at dksX20_item_5 21 rfl rfl)
theorem dX20_item_135 : decode cX20_item 135 = .ok (.getfield 15, 3) := dk_180 0 15 (dk_at dksX20_item_6 0 rfl rfl)
theorem dX20_item_138 : decode cX20_item 138 = .ok (.getfield 108, 3) := dk_180 0 108 (dk_at dksX20_item_6 3 rfl rfl)
theorem dX20_item_141 : decode cX20_item 141 = .ok (.iconst 2, 1) := dk_5 (dk_at dksX20_item_6 6 rfl rfl)
theorem dX20_item_142 : decode cX20_item 142 = .ok (.aload_n 0, 1) := dk_42 (dk_at dksX20_item_6 7 rfl rfl)
theorem dX20_item_143 : decode cX20_item 143 = .ok (.iconst 0, 1) := dk_3 (dk_at dksX20_item_6 8 rfl rfl)
theorem dX20_item_144 : decode cX20_item 144 = .ok (.bipush 9, 2) := dk_16 9 (dk_at dksX20_item_6 9 rfl rfl)
theorem dX20_item_146 : decode cX20_item 146 = .ok (.invokevirtual 74, 3) := dk_182 0 74 (dk_at dksX20_item_6 11 rfl rfl)
theorem dX20_item_149 : decode cX20_item 149 = .ok (.iastore, 1) := dk_79 (dk_at dksX20_item_6 14 rfl rfl)
theorem dX20_item_150 : decode cX20_item 150 = .ok (.return_, 1) := dk_177 (dk_at dksX20_item_6 15 rfl rfl)
abbrev cX20_sees : ByteArray := prog_13_method_3_code
def yX20_sees : MethodName := ⟨RX20, "sees", "(I)Z"⟩
def dkwX20_sees_1 : List UInt8 := [167, 0, 4, 3, 172]
abbrev dktX20_sees_1 : List UInt8 := dkwX20_sees_1 ++ []
def dkwX20_sees_0 : List UInt8 := [42, 182, 0, 29, 154, 0, 22, 42, 180, 0, 9, 42, 180, 0, 19, 182, 0, 33, 27, 160, 0, 7, 4]
abbrev dktX20_sees_0 : List UInt8 := dkwX20_sees_0 ++ dktX20_sees_1
theorem dksX20_sees_0 : cX20_sees.data.toList.drop 0 = dktX20_sees_0 := by decide +kernel
theorem dksX20_sees_1 : cX20_sees.data.toList.drop 23 = dktX20_sees_1 := dk_seg dksX20_sees_0 23 rfl rfl
theorem dX20_sees_0 : decode cX20_sees 0 = .ok (.aload_n 0, 1) := dk_42 (dk_at dksX20_sees_0 0 rfl rfl)
theorem dX20_sees_1 : decode cX20_sees 1 = .ok (.invokevirtual 29, 3) := dk_182 0 29 (dk_at dksX20_sees_0 1 rfl rfl)
theorem dX20_sees_4 : decode cX20_sees 4 = .ok (.ifCond .ne 22, 3) := dk_154 0 22 (dk_at dksX20_sees_0 4 rfl rfl)
theorem dX20_sees_7 : decode cX20_sees 7 = .ok (.aload_n 0, 1) := dk_42 (dk_at dksX20_sees_0 7 rfl rfl)
theorem dX20_sees_8 : decode cX20_sees 8 = .ok (.getfield 9, 3) := dk_180 0 9 (dk_at dksX20_sees_0 8 rfl rfl)
theorem dX20_sees_11 : decode cX20_sees 11 = .ok (.aload_n 0, 1) := dk_42 (dk_at dksX20_sees_0 11 rfl rfl)
theorem dX20_sees_12 : decode cX20_sees 12 = .ok (.getfield 19, 3) := dk_180 0 19 (dk_at dksX20_sees_0 12 rfl rfl)
theorem dX20_sees_15 : decode cX20_sees 15 = .ok (.invokevirtual 33, 3) := dk_182 0 33 (dk_at dksX20_sees_0 15 rfl rfl)
theorem dX20_sees_18 : decode cX20_sees 18 = .ok (.iload_n 1, 1) := dk_27 (dk_at dksX20_sees_0 18 rfl rfl)
theorem dX20_sees_19 : decode cX20_sees 19 = .ok (.if_icmp .ne 7, 3) := dk_160 0 7 (dk_at dksX20_sees_0 19 rfl rfl)
theorem dX20_sees_22 : decode cX20_sees 22 = .ok (.iconst 1, 1) := dk_4 (dk_at dksX20_sees_0 22 rfl rfl)
theorem dX20_sees_23 : decode cX20_sees 23 = .ok (.goto 4, 3) := dk_167 0 4 (dk_at dksX20_sees_1 0 rfl rfl)
theorem dX20_sees_26 : decode cX20_sees 26 = .ok (.iconst 0, 1) := dk_3 (dk_at dksX20_sees_1 3 rfl rfl)
theorem dX20_sees_27 : decode cX20_sees 27 = .ok (.ireturn, 1) := dk_172 (dk_at dksX20_sees_1 4 rfl rfl)
abbrev cX20_ends : ByteArray := prog_13_method_2_code
def yX20_ends : MethodName := ⟨RX20, "ends", "()Z"⟩
def dkwX20_ends_0 : List UInt8 := [42, 180, 0, 19, 42, 180, 0, 9, 182, 0, 23, 160, 0, 7, 4, 167, 0, 4, 3, 172]
abbrev dktX20_ends_0 : List UInt8 := dkwX20_ends_0 ++ []
theorem dksX20_ends_0 : cX20_ends.data.toList.drop 0 = dktX20_ends_0 := by decide +kernel
theorem dX20_ends_0 : decode cX20_ends 0 = .ok (.aload_n 0, 1) := dk_42 (dk_at dksX20_ends_0 0 rfl rfl)
theorem dX20_ends_1 : decode cX20_ends 1 = .ok (.getfield 19, 3) := dk_180 0 19 (dk_at dksX20_ends_0 1 rfl rfl)
theorem dX20_ends_4 : decode cX20_ends 4 = .ok (.aload_n 0, 1) := dk_42 (dk_at dksX20_ends_0 4 rfl rfl)
theorem dX20_ends_5 : decode cX20_ends 5 = .ok (.getfield 9, 3) := dk_180 0 9 (dk_at dksX20_ends_0 5 rfl rfl)
theorem dX20_ends_8 : decode cX20_ends 8 = .ok (.invokevirtual 23, 3) := dk_182 0 23 (dk_at dksX20_ends_0 8 rfl rfl)
theorem dX20_ends_11 : decode cX20_ends 11 = .ok (.if_icmp .ne 7, 3) := dk_160 0 7 (dk_at dksX20_ends_0 11 rfl rfl)
theorem dX20_ends_14 : decode cX20_ends 14 = .ok (.iconst 1, 1) := dk_4 (dk_at dksX20_ends_0 14 rfl rfl)
theorem dX20_ends_15 : decode cX20_ends 15 = .ok (.goto 4, 3) := dk_167 0 4 (dk_at dksX20_ends_0 15 rfl rfl)
theorem dX20_ends_18 : decode cX20_ends 18 = .ok (.iconst 0, 1) := dk_3 (dk_at dksX20_ends_0 18 rfl rfl)
theorem dX20_ends_19 : decode cX20_ends 19 = .ok (.ireturn, 1) := dk_172 (dk_at dksX20_ends_0 19 rfl rfl)
abbrev cX20_child : ByteArray := prog_13_method_11_code
def yX20_child : MethodName := ⟨RX20, "child", "(I)V"⟩
def dkwX20_child_2 : List UInt8 := [28, 29, 42, 4, 16, 9, 182, 0, 74, 182, 0, 84, 177]
abbrev dktX20_child_2 : List UInt8 := dkwX20_child_2 ++ []
def dkwX20_child_1 : List UInt8 := [27, 182, 0, 62, 42, 3, 16, 6, 182, 0, 74, 61, 42, 3, 16, 9, 182, 0, 74, 62, 42, 180, 0, 15]
abbrev dktX20_child_1 : List UInt8 := dkwX20_child_1 ++ dktX20_child_2
def dkwX20_child_0 : List UInt8 := [42, 18, 78, 182, 0, 80, 42, 42, 180, 0, 15, 180, 0, 69, 16, 8, 162, 0, 7, 4, 167, 0, 4, 3]
abbrev dktX20_child_0 : List UInt8 := dkwX20_child_0 ++ dktX20_child_1
theorem dksX20_child_0 : cX20_child.data.toList.drop 0 = dktX20_child_0 := by decide +kernel
theorem dksX20_child_1 : cX20_child.data.toList.drop 24 = dktX20_child_1 := dk_seg dksX20_child_0 24 rfl rfl
theorem dksX20_child_2 : cX20_child.data.toList.drop 48 = dktX20_child_2 := dk_seg dksX20_child_1 24 rfl rfl
theorem dX20_child_0 : decode cX20_child 0 = .ok (.aload_n 0, 1) := dk_42 (dk_at dksX20_child_0 0 rfl rfl)
theorem dX20_child_1 : decode cX20_child 1 = .ok (.ldc 78, 2) := dk_18 78 (dk_at dksX20_child_0 1 rfl rfl)
theorem dX20_child_3 : decode cX20_child 3 = .ok (.invokevirtual 80, 3) := dk_182 0 80 (dk_at dksX20_child_0 3 rfl rfl)
theorem dX20_child_6 : decode cX20_child 6 = .ok (.aload_n 0, 1) := dk_42 (dk_at dksX20_child_0 6 rfl rfl)
theorem dX20_child_7 : decode cX20_child 7 = .ok (.aload_n 0, 1) := dk_42 (dk_at dksX20_child_0 7 rfl rfl)
theorem dX20_child_8 : decode cX20_child 8 = .ok (.getfield 15, 3) := dk_180 0 15 (dk_at dksX20_child_0 8 rfl rfl)
theorem dX20_child_11 : decode cX20_child 11 = .ok (.getfield 69, 3) := dk_180 0 69 (dk_at dksX20_child_0 11 rfl rfl)
theorem dX20_child_14 : decode cX20_child 14 = .ok (.bipush 8, 2) := dk_16 8 (dk_at dksX20_child_0 14 rfl rfl)
theorem dX20_child_16 : decode cX20_child 16 = .ok (.if_icmp .ge 7, 3) := dk_162 0 7 (dk_at dksX20_child_0 16 rfl rfl)
theorem dX20_child_19 : decode cX20_child 19 = .ok (.iconst 1, 1) := dk_4 (dk_at dksX20_child_0 19 rfl rfl)
theorem dX20_child_20 : decode cX20_child 20 = .ok (.goto 4, 3) := dk_167 0 4 (dk_at dksX20_child_0 20 rfl rfl)
theorem dX20_child_23 : decode cX20_child 23 = .ok (.iconst 0, 1) := dk_3 (dk_at dksX20_child_0 23 rfl rfl)
theorem dX20_child_24 : decode cX20_child 24 = .ok (.iload_n 1, 1) := dk_27 (dk_at dksX20_child_1 0 rfl rfl)
theorem dX20_child_25 : decode cX20_child 25 = .ok (.invokevirtual 62, 3) := dk_182 0 62 (dk_at dksX20_child_1 1 rfl rfl)
theorem dX20_child_28 : decode cX20_child 28 = .ok (.aload_n 0, 1) := dk_42 (dk_at dksX20_child_1 4 rfl rfl)
theorem dX20_child_29 : decode cX20_child 29 = .ok (.iconst 0, 1) := dk_3 (dk_at dksX20_child_1 5 rfl rfl)
theorem dX20_child_30 : decode cX20_child 30 = .ok (.bipush 6, 2) := dk_16 6 (dk_at dksX20_child_1 6 rfl rfl)
theorem dX20_child_32 : decode cX20_child 32 = .ok (.invokevirtual 74, 3) := dk_182 0 74 (dk_at dksX20_child_1 8 rfl rfl)
theorem dX20_child_35 : decode cX20_child 35 = .ok (.istore_n 2, 1) := dk_61 (dk_at dksX20_child_1 11 rfl rfl)
theorem dX20_child_36 : decode cX20_child 36 = .ok (.aload_n 0, 1) := dk_42 (dk_at dksX20_child_1 12 rfl rfl)
theorem dX20_child_37 : decode cX20_child 37 = .ok (.iconst 0, 1) := dk_3 (dk_at dksX20_child_1 13 rfl rfl)
theorem dX20_child_38 : decode cX20_child 38 = .ok (.bipush 9, 2) := dk_16 9 (dk_at dksX20_child_1 14 rfl rfl)
theorem dX20_child_40 : decode cX20_child 40 = .ok (.invokevirtual 74, 3) := dk_182 0 74 (dk_at dksX20_child_1 16 rfl rfl)
theorem dX20_child_43 : decode cX20_child 43 = .ok (.istore_n 3, 1) := dk_62 (dk_at dksX20_child_1 19 rfl rfl)
theorem dX20_child_44 : decode cX20_child 44 = .ok (.aload_n 0, 1) := dk_42 (dk_at dksX20_child_1 20 rfl rfl)
theorem dX20_child_45 : decode cX20_child 45 = .ok (.getfield 15, 3) := dk_180 0 15 (dk_at dksX20_child_1 21 rfl rfl)
theorem dX20_child_48 : decode cX20_child 48 = .ok (.iload_n 2, 1) := dk_28 (dk_at dksX20_child_2 0 rfl rfl)
theorem dX20_child_49 : decode cX20_child 49 = .ok (.iload_n 3, 1) := dk_29 (dk_at dksX20_child_2 1 rfl rfl)
theorem dX20_child_50 : decode cX20_child 50 = .ok (.aload_n 0, 1) := dk_42 (dk_at dksX20_child_2 2 rfl rfl)
theorem dX20_child_51 : decode cX20_child 51 = .ok (.iconst 1, 1) := dk_4 (dk_at dksX20_child_2 3 rfl rfl)
theorem dX20_child_52 : decode cX20_child 52 = .ok (.bipush 9, 2) := dk_16 9 (dk_at dksX20_child_2 4 rfl rfl)
theorem dX20_child_54 : decode cX20_child 54 = .ok (.invokevirtual 74, 3) := dk_182 0 74 (dk_at dksX20_child_2 6 rfl rfl)
theorem dX20_child_57 : decode cX20_child 57 = .ok (.invokevirtual 84, 3) := dk_182 0 84 (dk_at dksX20_child_2 9 rfl rfl)
theorem dX20_child_60 : decode cX20_child 60 = .ok (.return_, 1) := dk_177 (dk_at dksX20_child_2 12 rfl rfl)
abbrev cX20_word : ByteArray := prog_13_method_5_code
def yX20_word : MethodName := ⟨RX20, "word", "(Ljava/lang/String;)V"⟩
def dkwX20_word_1 : List UInt8 := [167, 255, 236, 177]
abbrev dktX20_word_1 : List UInt8 := dkwX20_word_1 ++ []
def dkwX20_word_0 : List UInt8 := [3, 61, 28, 43, 182, 0, 46, 162, 0, 18, 42, 43, 28, 182, 0, 49, 182, 0, 53, 132, 2, 1]
abbrev dktX20_word_0 : List UInt8 := dkwX20_word_0 ++ dktX20_word_1
theorem dksX20_word_0 : cX20_word.data.toList.drop 0 = dktX20_word_0 := by decide +kernel
theorem dksX20_word_1 : cX20_word.data.toList.drop 22 = dktX20_word_1 := dk_seg dksX20_word_0 22 rfl rfl
theorem dX20_word_0 : decode cX20_word 0 = .ok (.iconst 0, 1) := dk_3 (dk_at dksX20_word_0 0 rfl rfl)
theorem dX20_word_1 : decode cX20_word 1 = .ok (.istore_n 2, 1) := dk_61 (dk_at dksX20_word_0 1 rfl rfl)
theorem dX20_word_2 : decode cX20_word 2 = .ok (.iload_n 2, 1) := dk_28 (dk_at dksX20_word_0 2 rfl rfl)
theorem dX20_word_3 : decode cX20_word 3 = .ok (.aload_n 1, 1) := dk_43 (dk_at dksX20_word_0 3 rfl rfl)
theorem dX20_word_4 : decode cX20_word 4 = .ok (.invokevirtual 46, 3) := dk_182 0 46 (dk_at dksX20_word_0 4 rfl rfl)
theorem dX20_word_7 : decode cX20_word 7 = .ok (.if_icmp .ge 18, 3) := dk_162 0 18 (dk_at dksX20_word_0 7 rfl rfl)
theorem dX20_word_10 : decode cX20_word 10 = .ok (.aload_n 0, 1) := dk_42 (dk_at dksX20_word_0 10 rfl rfl)
theorem dX20_word_11 : decode cX20_word 11 = .ok (.aload_n 1, 1) := dk_43 (dk_at dksX20_word_0 11 rfl rfl)
theorem dX20_word_12 : decode cX20_word 12 = .ok (.iload_n 2, 1) := dk_28 (dk_at dksX20_word_0 12 rfl rfl)
theorem dX20_word_13 : decode cX20_word 13 = .ok (.invokevirtual 49, 3) := dk_182 0 49 (dk_at dksX20_word_0 13 rfl rfl)
theorem dX20_word_16 : decode cX20_word 16 = .ok (.invokevirtual 53, 3) := dk_182 0 53 (dk_at dksX20_word_0 16 rfl rfl)
theorem dX20_word_19 : decode cX20_word 19 = .ok (.iinc 2 1, 3) := dk_132 2 1 (dk_at dksX20_word_0 19 rfl rfl)
theorem dX20_word_22 : decode cX20_word 22 = .ok (.goto (-20), 3) := dk_167 255 236 (dk_at dksX20_word_1 0 rfl rfl)
theorem dX20_word_25 : decode cX20_word 25 = .ok (.return_, 1) := dk_177 (dk_at dksX20_word_1 3 rfl rfl)
abbrev cX20_must : ByteArray := prog_13_method_4_code
def yX20_must : MethodName := ⟨RX20, "must", "(I)V"⟩
def dkwX20_must_1 : List UInt8 := [180, 0, 19, 4, 96, 181, 0, 19, 177]
abbrev dktX20_must_1 : List UInt8 := dkwX20_must_1 ++ []
def dkwX20_must_0 : List UInt8 := [42, 27, 182, 0, 37, 154, 0, 15, 187, 0, 41, 89, 42, 180, 0, 19, 183, 0, 43, 191, 42, 89]
abbrev dktX20_must_0 : List UInt8 := dkwX20_must_0 ++ dktX20_must_1
theorem dksX20_must_0 : cX20_must.data.toList.drop 0 = dktX20_must_0 := by decide +kernel
theorem dksX20_must_1 : cX20_must.data.toList.drop 22 = dktX20_must_1 := dk_seg dksX20_must_0 22 rfl rfl
theorem dX20_must_0 : decode cX20_must 0 = .ok (.aload_n 0, 1) := dk_42 (dk_at dksX20_must_0 0 rfl rfl)
theorem dX20_must_1 : decode cX20_must 1 = .ok (.iload_n 1, 1) := dk_27 (dk_at dksX20_must_0 1 rfl rfl)
theorem dX20_must_2 : decode cX20_must 2 = .ok (.invokevirtual 37, 3) := dk_182 0 37 (dk_at dksX20_must_0 2 rfl rfl)
theorem dX20_must_5 : decode cX20_must 5 = .ok (.ifCond .ne 15, 3) := dk_154 0 15 (dk_at dksX20_must_0 5 rfl rfl)
theorem dX20_must_8 : decode cX20_must 8 = .ok (.new 41, 3) := dk_187 0 41 (dk_at dksX20_must_0 8 rfl rfl)
theorem dX20_must_11 : decode cX20_must 11 = .ok (.dup, 1) := dk_89 (dk_at dksX20_must_0 11 rfl rfl)
theorem dX20_must_12 : decode cX20_must 12 = .ok (.aload_n 0, 1) := dk_42 (dk_at dksX20_must_0 12 rfl rfl)
theorem dX20_must_13 : decode cX20_must 13 = .ok (.getfield 19, 3) := dk_180 0 19 (dk_at dksX20_must_0 13 rfl rfl)
theorem dX20_must_16 : decode cX20_must 16 = .ok (.invokespecial 43, 3) := dk_183 0 43 (dk_at dksX20_must_0 16 rfl rfl)
theorem dX20_must_19 : decode cX20_must 19 = .ok (.athrow, 1) := dk_191 (dk_at dksX20_must_0 19 rfl rfl)
theorem dX20_must_20 : decode cX20_must 20 = .ok (.aload_n 0, 1) := dk_42 (dk_at dksX20_must_0 20 rfl rfl)
theorem dX20_must_21 : decode cX20_must 21 = .ok (.dup, 1) := dk_89 (dk_at dksX20_must_0 21 rfl rfl)
theorem dX20_must_22 : decode cX20_must 22 = .ok (.getfield 19, 3) := dk_180 0 19 (dk_at dksX20_must_1 0 rfl rfl)
theorem dX20_must_25 : decode cX20_must 25 = .ok (.iconst 1, 1) := dk_4 (dk_at dksX20_must_1 3 rfl rfl)
theorem dX20_must_26 : decode cX20_must 26 = .ok (.iadd, 1) := dk_96 (dk_at dksX20_must_1 4 rfl rfl)
theorem dX20_must_27 : decode cX20_must 27 = .ok (.putfield 19, 3) := dk_181 0 19 (dk_at dksX20_must_1 5 rfl rfl)
theorem dX20_must_30 : decode cX20_must 30 = .ok (.return_, 1) := dk_177 (dk_at dksX20_must_1 8 rfl rfl)
abbrev cX20_hasRoom : ByteArray := prog_13_method_8_code
def yX20_hasRoom : MethodName := ⟨RX20, "hasRoom", "(ZI)V"⟩
def dkwX20_hasRoom_0 : List UInt8 := [27, 154, 0, 12, 187, 0, 41, 89, 28, 183, 0, 43, 191, 177]
abbrev dktX20_hasRoom_0 : List UInt8 := dkwX20_hasRoom_0 ++ []
theorem dksX20_hasRoom_0 : cX20_hasRoom.data.toList.drop 0 = dktX20_hasRoom_0 := by decide +kernel
theorem dX20_hasRoom_0 : decode cX20_hasRoom 0 = .ok (.iload_n 1, 1) := dk_27 (dk_at dksX20_hasRoom_0 0 rfl rfl)
theorem dX20_hasRoom_1 : decode cX20_hasRoom 1 = .ok (.ifCond .ne 12, 3) := dk_154 0 12 (dk_at dksX20_hasRoom_0 1 rfl rfl)
theorem dX20_hasRoom_4 : decode cX20_hasRoom 4 = .ok (.new 41, 3) := dk_187 0 41 (dk_at dksX20_hasRoom_0 4 rfl rfl)
theorem dX20_hasRoom_7 : decode cX20_hasRoom 7 = .ok (.dup, 1) := dk_89 (dk_at dksX20_hasRoom_0 7 rfl rfl)
theorem dX20_hasRoom_8 : decode cX20_hasRoom 8 = .ok (.iload_n 2, 1) := dk_28 (dk_at dksX20_hasRoom_0 8 rfl rfl)
theorem dX20_hasRoom_9 : decode cX20_hasRoom 9 = .ok (.invokespecial 43, 3) := dk_183 0 43 (dk_at dksX20_hasRoom_0 9 rfl rfl)
theorem dX20_hasRoom_12 : decode cX20_hasRoom 12 = .ok (.athrow, 1) := dk_191 (dk_at dksX20_hasRoom_0 12 rfl rfl)
theorem dX20_hasRoom_13 : decode cX20_hasRoom 13 = .ok (.return_, 1) := dk_177 (dk_at dksX20_hasRoom_0 13 rfl rfl)
abbrev cX20_number : ByteArray := prog_13_method_7_code
def yX20_number : MethodName := ⟨RX20, "number", "(II)I"⟩
def dkwX20_number_4 : List UInt8 := [163, 0, 7, 4, 167, 0, 4, 3, 42, 180, 0, 56, 182, 0, 62, 29, 172]
abbrev dktX20_number_4 : List UInt8 := dkwX20_number_4 ++ []
def dkwX20_number_3 : List UInt8 := [182, 0, 33, 96, 16, 48, 100, 62, 132, 4, 1, 167, 255, 213, 42, 29, 27, 161, 0, 12, 29, 28]
abbrev dktX20_number_3 : List UInt8 := dkwX20_number_3 ++ dktX20_number_4
def dkwX20_number_2 : List UInt8 := [153, 0, 36, 16, 10, 29, 104, 42, 180, 0, 9, 42, 89, 180, 0, 19, 90, 4, 96, 181, 0, 19]
abbrev dktX20_number_2 : List UInt8 := dkwX20_number_2 ++ dktX20_number_3
def dkwX20_number_1 : List UInt8 := [89, 42, 180, 0, 19, 183, 0, 43, 191, 3, 62, 3, 54, 4, 21, 4, 6, 162, 0, 43, 42, 182, 0, 59]
abbrev dktX20_number_1 : List UInt8 := dkwX20_number_1 ++ dktX20_number_2
def dkwX20_number_0 : List UInt8 := [42, 16, 32, 182, 0, 53, 42, 42, 180, 0, 19, 181, 0, 56, 42, 182, 0, 59, 154, 0, 15, 187, 0, 41]
abbrev dktX20_number_0 : List UInt8 := dkwX20_number_0 ++ dktX20_number_1
theorem dksX20_number_0 : cX20_number.data.toList.drop 0 = dktX20_number_0 := by decide +kernel
theorem dksX20_number_1 : cX20_number.data.toList.drop 24 = dktX20_number_1 := dk_seg dksX20_number_0 24 rfl rfl
theorem dksX20_number_2 : cX20_number.data.toList.drop 48 = dktX20_number_2 := dk_seg dksX20_number_1 24 rfl rfl
theorem dksX20_number_3 : cX20_number.data.toList.drop 70 = dktX20_number_3 := dk_seg dksX20_number_2 22 rfl rfl
theorem dksX20_number_4 : cX20_number.data.toList.drop 92 = dktX20_number_4 := dk_seg dksX20_number_3 22 rfl rfl
theorem dX20_number_0 : decode cX20_number 0 = .ok (.aload_n 0, 1) := dk_42 (dk_at dksX20_number_0 0 rfl rfl)
theorem dX20_number_1 : decode cX20_number 1 = .ok (.bipush 32, 2) := dk_16 32 (dk_at dksX20_number_0 1 rfl rfl)
theorem dX20_number_3 : decode cX20_number 3 = .ok (.invokevirtual 53, 3) := dk_182 0 53 (dk_at dksX20_number_0 3 rfl rfl)
theorem dX20_number_6 : decode cX20_number 6 = .ok (.aload_n 0, 1) := dk_42 (dk_at dksX20_number_0 6 rfl rfl)
theorem dX20_number_7 : decode cX20_number 7 = .ok (.aload_n 0, 1) := dk_42 (dk_at dksX20_number_0 7 rfl rfl)
theorem dX20_number_8 : decode cX20_number 8 = .ok (.getfield 19, 3) := dk_180 0 19 (dk_at dksX20_number_0 8 rfl rfl)
theorem dX20_number_11 : decode cX20_number 11 = .ok (.putfield 56, 3) := dk_181 0 56 (dk_at dksX20_number_0 11 rfl rfl)
theorem dX20_number_14 : decode cX20_number 14 = .ok (.aload_n 0, 1) := dk_42 (dk_at dksX20_number_0 14 rfl rfl)
theorem dX20_number_15 : decode cX20_number 15 = .ok (.invokevirtual 59, 3) := dk_182 0 59 (dk_at dksX20_number_0 15 rfl rfl)
theorem dX20_number_18 : decode cX20_number 18 = .ok (.ifCond .ne 15, 3) := dk_154 0 15 (dk_at dksX20_number_0 18 rfl rfl)
theorem dX20_number_21 : decode cX20_number 21 = .ok (.new 41, 3) := dk_187 0 41 (dk_at dksX20_number_0 21 rfl rfl)
theorem dX20_number_24 : decode cX20_number 24 = .ok (.dup, 1) := dk_89 (dk_at dksX20_number_1 0 rfl rfl)
theorem dX20_number_25 : decode cX20_number 25 = .ok (.aload_n 0, 1) := dk_42 (dk_at dksX20_number_1 1 rfl rfl)
theorem dX20_number_26 : decode cX20_number 26 = .ok (.getfield 19, 3) := dk_180 0 19 (dk_at dksX20_number_1 2 rfl rfl)
theorem dX20_number_29 : decode cX20_number 29 = .ok (.invokespecial 43, 3) := dk_183 0 43 (dk_at dksX20_number_1 5 rfl rfl)
theorem dX20_number_32 : decode cX20_number 32 = .ok (.athrow, 1) := dk_191 (dk_at dksX20_number_1 8 rfl rfl)
theorem dX20_number_33 : decode cX20_number 33 = .ok (.iconst 0, 1) := dk_3 (dk_at dksX20_number_1 9 rfl rfl)
theorem dX20_number_34 : decode cX20_number 34 = .ok (.istore_n 3, 1) := dk_62 (dk_at dksX20_number_1 10 rfl rfl)
theorem dX20_number_35 : decode cX20_number 35 = .ok (.iconst 0, 1) := dk_3 (dk_at dksX20_number_1 11 rfl rfl)
theorem dX20_number_36 : decode cX20_number 36 = .ok (.istore 4, 2) := dk_54 4 (dk_at dksX20_number_1 12 rfl rfl)
theorem dX20_number_38 : decode cX20_number 38 = .ok (.iload 4, 2) := dk_21 4 (dk_at dksX20_number_1 14 rfl rfl)
theorem dX20_number_40 : decode cX20_number 40 = .ok (.iconst 3, 1) := dk_6 (dk_at dksX20_number_1 16 rfl rfl)
theorem dX20_number_41 : decode cX20_number 41 = .ok (.if_icmp .ge 43, 3) := dk_162 0 43 (dk_at dksX20_number_1 17 rfl rfl)
theorem dX20_number_44 : decode cX20_number 44 = .ok (.aload_n 0, 1) := dk_42 (dk_at dksX20_number_1 20 rfl rfl)
theorem dX20_number_45 : decode cX20_number 45 = .ok (.invokevirtual 59, 3) := dk_182 0 59 (dk_at dksX20_number_1 21 rfl rfl)
theorem dX20_number_48 : decode cX20_number 48 = .ok (.ifCond .eq 36, 3) := dk_153 0 36 (dk_at dksX20_number_2 0 rfl rfl)
theorem dX20_number_51 : decode cX20_number 51 = .ok (.bipush 10, 2) := dk_16 10 (dk_at dksX20_number_2 3 rfl rfl)
theorem dX20_number_53 : decode cX20_number 53 = .ok (.iload_n 3, 1) := dk_29 (dk_at dksX20_number_2 5 rfl rfl)
theorem dX20_number_54 : decode cX20_number 54 = .ok (.imul, 1) := dk_104 (dk_at dksX20_number_2 6 rfl rfl)
theorem dX20_number_55 : decode cX20_number 55 = .ok (.aload_n 0, 1) := dk_42 (dk_at dksX20_number_2 7 rfl rfl)
theorem dX20_number_56 : decode cX20_number 56 = .ok (.getfield 9, 3) := dk_180 0 9 (dk_at dksX20_number_2 8 rfl rfl)
theorem dX20_number_59 : decode cX20_number 59 = .ok (.aload_n 0, 1) := dk_42 (dk_at dksX20_number_2 11 rfl rfl)
theorem dX20_number_60 : decode cX20_number 60 = .ok (.dup, 1) := dk_89 (dk_at dksX20_number_2 12 rfl rfl)
theorem dX20_number_61 : decode cX20_number 61 = .ok (.getfield 19, 3) := dk_180 0 19 (dk_at dksX20_number_2 13 rfl rfl)
theorem dX20_number_64 : decode cX20_number 64 = .ok (.dup_x1, 1) := dk_90 (dk_at dksX20_number_2 16 rfl rfl)
theorem dX20_number_65 : decode cX20_number 65 = .ok (.iconst 1, 1) := dk_4 (dk_at dksX20_number_2 17 rfl rfl)
theorem dX20_number_66 : decode cX20_number 66 = .ok (.iadd, 1) := dk_96 (dk_at dksX20_number_2 18 rfl rfl)
theorem dX20_number_67 : decode cX20_number 67 = .ok (.putfield 19, 3) := dk_181 0 19 (dk_at dksX20_number_2 19 rfl rfl)
theorem dX20_number_70 : decode cX20_number 70 = .ok (.invokevirtual 33, 3) := dk_182 0 33 (dk_at dksX20_number_3 0 rfl rfl)
theorem dX20_number_73 : decode cX20_number 73 = .ok (.iadd, 1) := dk_96 (dk_at dksX20_number_3 3 rfl rfl)
theorem dX20_number_74 : decode cX20_number 74 = .ok (.bipush 48, 2) := dk_16 48 (dk_at dksX20_number_3 4 rfl rfl)
theorem dX20_number_76 : decode cX20_number 76 = .ok (.isub, 1) := dk_100 (dk_at dksX20_number_3 6 rfl rfl)
theorem dX20_number_77 : decode cX20_number 77 = .ok (.istore_n 3, 1) := dk_62 (dk_at dksX20_number_3 7 rfl rfl)
theorem dX20_number_78 : decode cX20_number 78 = .ok (.iinc 4 1, 3) := dk_132 4 1 (dk_at dksX20_number_3 8 rfl rfl)
theorem dX20_number_81 : decode cX20_number 81 = .ok (.goto (-43), 3) := dk_167 255 213 (dk_at dksX20_number_3 11 rfl rfl)
theorem dX20_number_84 : decode cX20_number 84 = .ok (.aload_n 0, 1) := dk_42 (dk_at dksX20_number_3 14 rfl rfl)
theorem dX20_number_85 : decode cX20_number 85 = .ok (.iload_n 3, 1) := dk_29 (dk_at dksX20_number_3 15 rfl rfl)
theorem dX20_number_86 : decode cX20_number 86 = .ok (.iload_n 1, 1) := dk_27 (dk_at dksX20_number_3 16 rfl rfl)
theorem dX20_number_87 : decode cX20_number 87 = .ok (.if_icmp .lt 12, 3) := dk_161 0 12 (dk_at dksX20_number_3 17 rfl rfl)
theorem dX20_number_90 : decode cX20_number 90 = .ok (.iload_n 3, 1) := dk_29 (dk_at dksX20_number_3 20 rfl rfl)
theorem dX20_number_91 : decode cX20_number 91 = .ok (.iload_n 2, 1) := dk_28 (dk_at dksX20_number_3 21 rfl rfl)
theorem dX20_number_92 : decode cX20_number 92 = .ok (.if_icmp .gt 7, 3) := dk_163 0 7 (dk_at dksX20_number_4 0 rfl rfl)
theorem dX20_number_95 : decode cX20_number 95 = .ok (.iconst 1, 1) := dk_4 (dk_at dksX20_number_4 3 rfl rfl)
theorem dX20_number_96 : decode cX20_number 96 = .ok (.goto 4, 3) := dk_167 0 4 (dk_at dksX20_number_4 4 rfl rfl)
theorem dX20_number_99 : decode cX20_number 99 = .ok (.iconst 0, 1) := dk_3 (dk_at dksX20_number_4 7 rfl rfl)
theorem dX20_number_100 : decode cX20_number 100 = .ok (.aload_n 0, 1) := dk_42 (dk_at dksX20_number_4 8 rfl rfl)
theorem dX20_number_101 : decode cX20_number 101 = .ok (.getfield 56, 3) := dk_180 0 56 (dk_at dksX20_number_4 9 rfl rfl)
theorem dX20_number_104 : decode cX20_number 104 = .ok (.invokevirtual 62, 3) := dk_182 0 62 (dk_at dksX20_number_4 12 rfl rfl)
theorem dX20_number_107 : decode cX20_number 107 = .ok (.iload_n 3, 1) := dk_29 (dk_at dksX20_number_4 15 rfl rfl)
theorem dX20_number_108 : decode cX20_number 108 = .ok (.ireturn, 1) := dk_172 (dk_at dksX20_number_4 16 rfl rfl)
abbrev cX20_digit : ByteArray := prog_13_method_6_code
def yX20_digit : MethodName := ⟨RX20, "digit", "()Z"⟩
def dkwX20_digit_1 : List UInt8 := [180, 0, 9, 42, 180, 0, 19, 182, 0, 33, 16, 57, 163, 0, 7, 4, 167, 0, 4, 3, 172]
abbrev dktX20_digit_1 : List UInt8 := dkwX20_digit_1 ++ []
def dkwX20_digit_0 : List UInt8 := [42, 182, 0, 29, 154, 0, 39, 42, 180, 0, 9, 42, 180, 0, 19, 182, 0, 33, 16, 48, 161, 0, 23, 42]
abbrev dktX20_digit_0 : List UInt8 := dkwX20_digit_0 ++ dktX20_digit_1
theorem dksX20_digit_0 : cX20_digit.data.toList.drop 0 = dktX20_digit_0 := by decide +kernel
theorem dksX20_digit_1 : cX20_digit.data.toList.drop 24 = dktX20_digit_1 := dk_seg dksX20_digit_0 24 rfl rfl
theorem dX20_digit_0 : decode cX20_digit 0 = .ok (.aload_n 0, 1) := dk_42 (dk_at dksX20_digit_0 0 rfl rfl)
theorem dX20_digit_1 : decode cX20_digit 1 = .ok (.invokevirtual 29, 3) := dk_182 0 29 (dk_at dksX20_digit_0 1 rfl rfl)
theorem dX20_digit_4 : decode cX20_digit 4 = .ok (.ifCond .ne 39, 3) := dk_154 0 39 (dk_at dksX20_digit_0 4 rfl rfl)
theorem dX20_digit_7 : decode cX20_digit 7 = .ok (.aload_n 0, 1) := dk_42 (dk_at dksX20_digit_0 7 rfl rfl)
theorem dX20_digit_8 : decode cX20_digit 8 = .ok (.getfield 9, 3) := dk_180 0 9 (dk_at dksX20_digit_0 8 rfl rfl)
theorem dX20_digit_11 : decode cX20_digit 11 = .ok (.aload_n 0, 1) := dk_42 (dk_at dksX20_digit_0 11 rfl rfl)
theorem dX20_digit_12 : decode cX20_digit 12 = .ok (.getfield 19, 3) := dk_180 0 19 (dk_at dksX20_digit_0 12 rfl rfl)
theorem dX20_digit_15 : decode cX20_digit 15 = .ok (.invokevirtual 33, 3) := dk_182 0 33 (dk_at dksX20_digit_0 15 rfl rfl)
theorem dX20_digit_18 : decode cX20_digit 18 = .ok (.bipush 48, 2) := dk_16 48 (dk_at dksX20_digit_0 18 rfl rfl)
theorem dX20_digit_20 : decode cX20_digit 20 = .ok (.if_icmp .lt 23, 3) := dk_161 0 23 (dk_at dksX20_digit_0 20 rfl rfl)
theorem dX20_digit_23 : decode cX20_digit 23 = .ok (.aload_n 0, 1) := dk_42 (dk_at dksX20_digit_0 23 rfl rfl)
theorem dX20_digit_24 : decode cX20_digit 24 = .ok (.getfield 9, 3) := dk_180 0 9 (dk_at dksX20_digit_1 0 rfl rfl)
theorem dX20_digit_27 : decode cX20_digit 27 = .ok (.aload_n 0, 1) := dk_42 (dk_at dksX20_digit_1 3 rfl rfl)
theorem dX20_digit_28 : decode cX20_digit 28 = .ok (.getfield 19, 3) := dk_180 0 19 (dk_at dksX20_digit_1 4 rfl rfl)
theorem dX20_digit_31 : decode cX20_digit 31 = .ok (.invokevirtual 33, 3) := dk_182 0 33 (dk_at dksX20_digit_1 7 rfl rfl)
theorem dX20_digit_34 : decode cX20_digit 34 = .ok (.bipush 57, 2) := dk_16 57 (dk_at dksX20_digit_1 10 rfl rfl)
theorem dX20_digit_36 : decode cX20_digit 36 = .ok (.if_icmp .gt 7, 3) := dk_163 0 7 (dk_at dksX20_digit_1 12 rfl rfl)
theorem dX20_digit_39 : decode cX20_digit 39 = .ok (.iconst 1, 1) := dk_4 (dk_at dksX20_digit_1 15 rfl rfl)
theorem dX20_digit_40 : decode cX20_digit 40 = .ok (.goto 4, 3) := dk_167 0 4 (dk_at dksX20_digit_1 16 rfl rfl)
theorem dX20_digit_43 : decode cX20_digit 43 = .ok (.iconst 0, 1) := dk_3 (dk_at dksX20_digit_1 19 rfl rfl)
theorem dX20_digit_44 : decode cX20_digit 44 = .ok (.ireturn, 1) := dk_172 (dk_at dksX20_digit_1 20 rfl rfl)
abbrev cX20_sack : ByteArray := prog_13_method_12_code
def yX20_sack : MethodName := ⟨RX20, "sack", "(I)V"⟩
def dkwX20_sack_2 : List UInt8 := [182, 0, 93, 177]
abbrev dktX20_sack_2 : List UInt8 := dkwX20_sack_2 ++ []
def dkwX20_sack_1 : List UInt8 := [27, 182, 0, 62, 42, 4, 16, 9, 182, 0, 74, 61, 42, 180, 0, 15, 28, 42, 3, 16, 9, 182, 0, 74]
abbrev dktX20_sack_1 : List UInt8 := dkwX20_sack_1 ++ dktX20_sack_2
def dkwX20_sack_0 : List UInt8 := [42, 18, 88, 182, 0, 80, 42, 42, 180, 0, 15, 180, 0, 90, 16, 8, 162, 0, 7, 4, 167, 0, 4, 3]
abbrev dktX20_sack_0 : List UInt8 := dkwX20_sack_0 ++ dktX20_sack_1
theorem dksX20_sack_0 : cX20_sack.data.toList.drop 0 = dktX20_sack_0 := by decide +kernel
theorem dksX20_sack_1 : cX20_sack.data.toList.drop 24 = dktX20_sack_1 := dk_seg dksX20_sack_0 24 rfl rfl
theorem dksX20_sack_2 : cX20_sack.data.toList.drop 48 = dktX20_sack_2 := dk_seg dksX20_sack_1 24 rfl rfl
theorem dX20_sack_0 : decode cX20_sack 0 = .ok (.aload_n 0, 1) := dk_42 (dk_at dksX20_sack_0 0 rfl rfl)
theorem dX20_sack_1 : decode cX20_sack 1 = .ok (.ldc 88, 2) := dk_18 88 (dk_at dksX20_sack_0 1 rfl rfl)
theorem dX20_sack_3 : decode cX20_sack 3 = .ok (.invokevirtual 80, 3) := dk_182 0 80 (dk_at dksX20_sack_0 3 rfl rfl)
theorem dX20_sack_6 : decode cX20_sack 6 = .ok (.aload_n 0, 1) := dk_42 (dk_at dksX20_sack_0 6 rfl rfl)
theorem dX20_sack_7 : decode cX20_sack 7 = .ok (.aload_n 0, 1) := dk_42 (dk_at dksX20_sack_0 7 rfl rfl)
theorem dX20_sack_8 : decode cX20_sack 8 = .ok (.getfield 15, 3) := dk_180 0 15 (dk_at dksX20_sack_0 8 rfl rfl)
theorem dX20_sack_11 : decode cX20_sack 11 = .ok (.getfield 90, 3) := dk_180 0 90 (dk_at dksX20_sack_0 11 rfl rfl)
theorem dX20_sack_14 : decode cX20_sack 14 = .ok (.bipush 8, 2) := dk_16 8 (dk_at dksX20_sack_0 14 rfl rfl)
theorem dX20_sack_16 : decode cX20_sack 16 = .ok (.if_icmp .ge 7, 3) := dk_162 0 7 (dk_at dksX20_sack_0 16 rfl rfl)
theorem dX20_sack_19 : decode cX20_sack 19 = .ok (.iconst 1, 1) := dk_4 (dk_at dksX20_sack_0 19 rfl rfl)
theorem dX20_sack_20 : decode cX20_sack 20 = .ok (.goto 4, 3) := dk_167 0 4 (dk_at dksX20_sack_0 20 rfl rfl)
theorem dX20_sack_23 : decode cX20_sack 23 = .ok (.iconst 0, 1) := dk_3 (dk_at dksX20_sack_0 23 rfl rfl)
theorem dX20_sack_24 : decode cX20_sack 24 = .ok (.iload_n 1, 1) := dk_27 (dk_at dksX20_sack_1 0 rfl rfl)
theorem dX20_sack_25 : decode cX20_sack 25 = .ok (.invokevirtual 62, 3) := dk_182 0 62 (dk_at dksX20_sack_1 1 rfl rfl)
theorem dX20_sack_28 : decode cX20_sack 28 = .ok (.aload_n 0, 1) := dk_42 (dk_at dksX20_sack_1 4 rfl rfl)
theorem dX20_sack_29 : decode cX20_sack 29 = .ok (.iconst 1, 1) := dk_4 (dk_at dksX20_sack_1 5 rfl rfl)
theorem dX20_sack_30 : decode cX20_sack 30 = .ok (.bipush 9, 2) := dk_16 9 (dk_at dksX20_sack_1 6 rfl rfl)
theorem dX20_sack_32 : decode cX20_sack 32 = .ok (.invokevirtual 74, 3) := dk_182 0 74 (dk_at dksX20_sack_1 8 rfl rfl)
theorem dX20_sack_35 : decode cX20_sack 35 = .ok (.istore_n 2, 1) := dk_61 (dk_at dksX20_sack_1 11 rfl rfl)
theorem dX20_sack_36 : decode cX20_sack 36 = .ok (.aload_n 0, 1) := dk_42 (dk_at dksX20_sack_1 12 rfl rfl)
theorem dX20_sack_37 : decode cX20_sack 37 = .ok (.getfield 15, 3) := dk_180 0 15 (dk_at dksX20_sack_1 13 rfl rfl)
theorem dX20_sack_40 : decode cX20_sack 40 = .ok (.iload_n 2, 1) := dk_28 (dk_at dksX20_sack_1 16 rfl rfl)
theorem dX20_sack_41 : decode cX20_sack 41 = .ok (.aload_n 0, 1) := dk_42 (dk_at dksX20_sack_1 17 rfl rfl)
theorem dX20_sack_42 : decode cX20_sack 42 = .ok (.iconst 0, 1) := dk_3 (dk_at dksX20_sack_1 18 rfl rfl)
theorem dX20_sack_43 : decode cX20_sack 43 = .ok (.bipush 9, 2) := dk_16 9 (dk_at dksX20_sack_1 19 rfl rfl)
theorem dX20_sack_45 : decode cX20_sack 45 = .ok (.invokevirtual 74, 3) := dk_182 0 74 (dk_at dksX20_sack_1 21 rfl rfl)
theorem dX20_sack_48 : decode cX20_sack 48 = .ok (.invokevirtual 93, 3) := dk_182 0 93 (dk_at dksX20_sack_2 0 rfl rfl)
theorem dX20_sack_51 : decode cX20_sack 51 = .ok (.return_, 1) := dk_177 (dk_at dksX20_sack_2 3 rfl rfl)
abbrev cX20_wearsOrWayOrWind : ByteArray := prog_13_method_13_code
def yX20_wearsOrWayOrWind : MethodName := ⟨RX20, "wearsOrWayOrWind", "()V"⟩
def dkwX20_wearsOrWayOrWind_4 : List UInt8 := [182, 0, 80, 42, 180, 0, 15, 180, 0, 108, 6, 42, 3, 16, 60, 182, 0, 74, 79, 177]
abbrev dktX20_wearsOrWayOrWind_4 : List UInt8 := dkwX20_wearsOrWayOrWind_4 ++ []
def dkwX20_wearsOrWayOrWind_3 : List UInt8 := [180, 0, 15, 180, 0, 108, 3, 42, 4, 17, 0, 200, 182, 0, 74, 79, 167, 0, 25, 42, 18, 111]
abbrev dktX20_wearsOrWayOrWind_3 : List UInt8 := dkwX20_wearsOrWayOrWind_3 ++ dktX20_wearsOrWayOrWind_4
def dkwX20_wearsOrWayOrWind_2 : List UInt8 := [182, 0, 74, 79, 167, 0, 60, 42, 16, 97, 182, 0, 37, 153, 0, 29, 42, 18, 106, 182, 0, 80, 42]
abbrev dktX20_wearsOrWayOrWind_2 : List UInt8 := dkwX20_wearsOrWayOrWind_2 ++ dktX20_wearsOrWayOrWind_3
def dkwX20_wearsOrWayOrWind_1 : List UInt8 := [182, 0, 99, 60, 42, 180, 0, 15, 180, 0, 102, 27, 42, 3, 42, 180, 0, 15, 180, 0, 90, 4, 100]
abbrev dktX20_wearsOrWayOrWind_1 : List UInt8 := dkwX20_wearsOrWayOrWind_1 ++ dktX20_wearsOrWayOrWind_2
def dkwX20_wearsOrWayOrWind_0 : List UInt8 := [42, 16, 119, 182, 0, 53, 42, 16, 101, 182, 0, 37, 153, 0, 40, 42, 18, 97, 182, 0, 80, 42]
abbrev dktX20_wearsOrWayOrWind_0 : List UInt8 := dkwX20_wearsOrWayOrWind_0 ++ dktX20_wearsOrWayOrWind_1
theorem dksX20_wearsOrWayOrWind_0 : cX20_wearsOrWayOrWind.data.toList.drop 0 = dktX20_wearsOrWayOrWind_0 := by decide +kernel
theorem dksX20_wearsOrWayOrWind_1 : cX20_wearsOrWayOrWind.data.toList.drop 22 = dktX20_wearsOrWayOrWind_1 := dk_seg dksX20_wearsOrWayOrWind_0 22 rfl rfl
theorem dksX20_wearsOrWayOrWind_2 : cX20_wearsOrWayOrWind.data.toList.drop 45 = dktX20_wearsOrWayOrWind_2 := dk_seg dksX20_wearsOrWayOrWind_1 23 rfl rfl
theorem dksX20_wearsOrWayOrWind_3 : cX20_wearsOrWayOrWind.data.toList.drop 68 = dktX20_wearsOrWayOrWind_3 := dk_seg dksX20_wearsOrWayOrWind_2 23 rfl rfl
theorem dksX20_wearsOrWayOrWind_4 : cX20_wearsOrWayOrWind.data.toList.drop 90 = dktX20_wearsOrWayOrWind_4 := dk_seg dksX20_wearsOrWayOrWind_3 22 rfl rfl
theorem dX20_wearsOrWayOrWind_0 : decode cX20_wearsOrWayOrWind 0 = .ok (.aload_n 0, 1) := dk_42 (dk_at dksX20_wearsOrWayOrWind_0 0 rfl rfl)
theorem dX20_wearsOrWayOrWind_1 : decode cX20_wearsOrWayOrWind 1 = .ok (.bipush 119, 2) := dk_16 119 (dk_at dksX20_wearsOrWayOrWind_0 1 rfl rfl)
theorem dX20_wearsOrWayOrWind_3 : decode cX20_wearsOrWayOrWind 3 = .ok (.invokevirtual 53, 3) := dk_182 0 53 (dk_at dksX20_wearsOrWayOrWind_0 3 rfl rfl)
theorem dX20_wearsOrWayOrWind_6 : decode cX20_wearsOrWayOrWind 6 = .ok (.aload_n 0, 1) := dk_42 (dk_at dksX20_wearsOrWayOrWind_0 6 rfl rfl)
theorem dX20_wearsOrWayOrWind_7 : decode cX20_wearsOrWayOrWind 7 = .ok (.bipush 101, 2) := dk_16 101 (dk_at dksX20_wearsOrWayOrWind_0 7 rfl rfl)
theorem dX20_wearsOrWayOrWind_9 : decode cX20_wearsOrWayOrWind 9 = .ok (.invokevirtual 37, 3) := dk_182 0 37 (dk_at dksX20_wearsOrWayOrWind_0 9 rfl rfl)
theorem dX20_wearsOrWayOrWind_12 : decode cX20_wearsOrWayOrWind 12 = .ok (.ifCond .eq 40, 3) := dk_153 0 40 (dk_at dksX20_wearsOrWayOrWind_0 12 rfl rfl)
theorem dX20_wearsOrWayOrWind_15 : decode cX20_wearsOrWayOrWind 15 = .ok (.aload_n 0, 1) := dk_42 (dk_at dksX20_wearsOrWayOrWind_0 15 rfl rfl)
theorem dX20_wearsOrWayOrWind_16 : decode cX20_wearsOrWayOrWind 16 = .ok (.ldc 97, 2) := dk_18 97 (dk_at dksX20_wearsOrWayOrWind_0 16 rfl rfl)
theorem dX20_wearsOrWayOrWind_18 : decode cX20_wearsOrWayOrWind 18 = .ok (.invokevirtual 80, 3) := dk_182 0 80 (dk_at dksX20_wearsOrWayOrWind_0 18 rfl rfl)
theorem dX20_wearsOrWayOrWind_21 : decode cX20_wearsOrWayOrWind 21 = .ok (.aload_n 0, 1) := dk_42 (dk_at dksX20_wearsOrWayOrWind_0 21 rfl rfl)
theorem dX20_wearsOrWayOrWind_22 : decode cX20_wearsOrWayOrWind 22 = .ok (.invokevirtual 99, 3) := dk_182 0 99 (dk_at dksX20_wearsOrWayOrWind_1 0 rfl rfl)
theorem dX20_wearsOrWayOrWind_25 : decode cX20_wearsOrWayOrWind 25 = .ok (.istore_n 1, 1) := dk_60 (dk_at dksX20_wearsOrWayOrWind_1 3 rfl rfl)
theorem dX20_wearsOrWayOrWind_26 : decode cX20_wearsOrWayOrWind 26 = .ok (.aload_n 0, 1) := dk_42 (dk_at dksX20_wearsOrWayOrWind_1 4 rfl rfl)
theorem dX20_wearsOrWayOrWind_27 : decode cX20_wearsOrWayOrWind 27 = .ok (.getfield 15, 3) := dk_180 0 15 (dk_at dksX20_wearsOrWayOrWind_1 5 rfl rfl)
theorem dX20_wearsOrWayOrWind_30 : decode cX20_wearsOrWayOrWind 30 = .ok (.getfield 102, 3) := dk_180 0 102 (dk_at dksX20_wearsOrWayOrWind_1 8 rfl rfl)
theorem dX20_wearsOrWayOrWind_33 : decode cX20_wearsOrWayOrWind 33 = .ok (.iload_n 1, 1) := dk_27 (dk_at dksX20_wearsOrWayOrWind_1 11 rfl rfl)
theorem dX20_wearsOrWayOrWind_34 : decode cX20_wearsOrWayOrWind 34 = .ok (.aload_n 0, 1) := dk_42 (dk_at dksX20_wearsOrWayOrWind_1 12 rfl rfl)
theorem dX20_wearsOrWayOrWind_35 : decode cX20_wearsOrWayOrWind 35 = .ok (.iconst 0, 1) := dk_3 (dk_at dksX20_wearsOrWayOrWind_1 13 rfl rfl)
theorem dX20_wearsOrWayOrWind_36 : decode cX20_wearsOrWayOrWind 36 = .ok (.aload_n 0, 1) := dk_42 (dk_at dksX20_wearsOrWayOrWind_1 14 rfl rfl)
theorem dX20_wearsOrWayOrWind_37 : decode cX20_wearsOrWayOrWind 37 = .ok (.getfield 15, 3) := dk_180 0 15 (dk_at dksX20_wearsOrWayOrWind_1 15 rfl rfl)
theorem dX20_wearsOrWayOrWind_40 : decode cX20_wearsOrWayOrWind 40 = .ok (.getfield 90, 3) := dk_180 0 90 (dk_at dksX20_wearsOrWayOrWind_1 18 rfl rfl)
theorem dX20_wearsOrWayOrWind_43 : decode cX20_wearsOrWayOrWind 43 = .ok (.iconst 1, 1) := dk_4 (dk_at dksX20_wearsOrWayOrWind_1 21 rfl rfl)
theorem dX20_wearsOrWayOrWind_44 : decode cX20_wearsOrWayOrWind 44 = .ok (.isub, 1) := dk_100 (dk_at dksX20_wearsOrWayOrWind_1 22 rfl rfl)
theorem dX20_wearsOrWayOrWind_45 : decode cX20_wearsOrWayOrWind 45 = .ok (.invokevirtual 74, 3) := dk_182 0 74 (dk_at dksX20_wearsOrWayOrWind_2 0 rfl rfl)
theorem dX20_wearsOrWayOrWind_48 : decode cX20_wearsOrWayOrWind 48 = .ok (.iastore, 1) := dk_79 (dk_at dksX20_wearsOrWayOrWind_2 3 rfl rfl)
theorem dX20_wearsOrWayOrWind_49 : decode cX20_wearsOrWayOrWind 49 = .ok (.goto 60, 3) := dk_167 0 60 (dk_at dksX20_wearsOrWayOrWind_2 4 rfl rfl)
theorem dX20_wearsOrWayOrWind_52 : decode cX20_wearsOrWayOrWind 52 = .ok (.aload_n 0, 1) := dk_42 (dk_at dksX20_wearsOrWayOrWind_2 7 rfl rfl)
theorem dX20_wearsOrWayOrWind_53 : decode cX20_wearsOrWayOrWind 53 = .ok (.bipush 97, 2) := dk_16 97 (dk_at dksX20_wearsOrWayOrWind_2 8 rfl rfl)
theorem dX20_wearsOrWayOrWind_55 : decode cX20_wearsOrWayOrWind 55 = .ok (.invokevirtual 37, 3) := dk_182 0 37 (dk_at dksX20_wearsOrWayOrWind_2 10 rfl rfl)
theorem dX20_wearsOrWayOrWind_58 : decode cX20_wearsOrWayOrWind 58 = .ok (.ifCond .eq 29, 3) := dk_153 0 29 (dk_at dksX20_wearsOrWayOrWind_2 13 rfl rfl)
theorem dX20_wearsOrWayOrWind_61 : decode cX20_wearsOrWayOrWind 61 = .ok (.aload_n 0, 1) := dk_42 (dk_at dksX20_wearsOrWayOrWind_2 16 rfl rfl)
theorem dX20_wearsOrWayOrWind_62 : decode cX20_wearsOrWayOrWind 62 = .ok (.ldc 106, 2) := dk_18 106 (dk_at dksX20_wearsOrWayOrWind_2 17 rfl rfl)
theorem dX20_wearsOrWayOrWind_64 : decode cX20_wearsOrWayOrWind 64 = .ok (.invokevirtual 80, 3) := dk_182 0 80 (dk_at dksX20_wearsOrWayOrWind_2 19 rfl rfl)
theorem dX20_wearsOrWayOrWind_67 : decode cX20_wearsOrWayOrWind 67 = .ok (.aload_n 0, 1) := dk_42 (dk_at dksX20_wearsOrWayOrWind_2 22 rfl rfl)
theorem dX20_wearsOrWayOrWind_68 : decode cX20_wearsOrWayOrWind 68 = .ok (.getfield 15, 3) := dk_180 0 15 (dk_at dksX20_wearsOrWayOrWind_3 0 rfl rfl)
theorem dX20_wearsOrWayOrWind_71 : decode cX20_wearsOrWayOrWind 71 = .ok (.getfield 108, 3) := dk_180 0 108 (dk_at dksX20_wearsOrWayOrWind_3 3 rfl rfl)
theorem dX20_wearsOrWayOrWind_74 : decode cX20_wearsOrWayOrWind 74 = .ok (.iconst 0, 1) := dk_3 (dk_at dksX20_wearsOrWayOrWind_3 6 rfl rfl)
theorem dX20_wearsOrWayOrWind_75 : decode cX20_wearsOrWayOrWind 75 = .ok (.aload_n 0, 1) := dk_42 (dk_at dksX20_wearsOrWayOrWind_3 7 rfl rfl)
theorem dX20_wearsOrWayOrWind_76 : decode cX20_wearsOrWayOrWind 76 = .ok (.iconst 1, 1) := dk_4 (dk_at dksX20_wearsOrWayOrWind_3 8 rfl rfl)
theorem dX20_wearsOrWayOrWind_77 : decode cX20_wearsOrWayOrWind 77 = .ok (.sipush 200, 3) := dk_17 0 200 (dk_at dksX20_wearsOrWayOrWind_3 9 rfl rfl)
theorem dX20_wearsOrWayOrWind_80 : decode cX20_wearsOrWayOrWind 80 = .ok (.invokevirtual 74, 3) := dk_182 0 74 (dk_at dksX20_wearsOrWayOrWind_3 12 rfl rfl)
theorem dX20_wearsOrWayOrWind_83 : decode cX20_wearsOrWayOrWind 83 = .ok (.iastore, 1) := dk_79 (dk_at dksX20_wearsOrWayOrWind_3 15 rfl rfl)
theorem dX20_wearsOrWayOrWind_84 : decode cX20_wearsOrWayOrWind 84 = .ok (.goto 25, 3) := dk_167 0 25 (dk_at dksX20_wearsOrWayOrWind_3 16 rfl rfl)
theorem dX20_wearsOrWayOrWind_87 : decode cX20_wearsOrWayOrWind 87 = .ok (.aload_n 0, 1) := dk_42 (dk_at dksX20_wearsOrWayOrWind_3 19 rfl rfl)
theorem dX20_wearsOrWayOrWind_88 : decode cX20_wearsOrWayOrWind 88 = .ok (.ldc 111, 2) := dk_18 111 (dk_at dksX20_wearsOrWayOrWind_3 20 rfl rfl)
theorem dX20_wearsOrWayOrWind_90 : decode cX20_wearsOrWayOrWind 90 = .ok (.invokevirtual 80, 3) := dk_182 0 80 (dk_at dksX20_wearsOrWayOrWind_4 0 rfl rfl)
theorem dX20_wearsOrWayOrWind_93 : decode cX20_wearsOrWayOrWind 93 = .ok (.aload_n 0, 1) := dk_42 (dk_at dksX20_wearsOrWayOrWind_4 3 rfl rfl)
theorem dX20_wearsOrWayOrWind_94 : decode cX20_wearsOrWayOrWind 94 = .ok (.getfield 15, 3) := dk_180 0 15 (dk_at dksX20_wearsOrWayOrWind_4 4 rfl rfl)
theorem dX20_wearsOrWayOrWind_97 : decode cX20_wearsOrWayOrWind 97 = .ok (.getfield 108, 3) := dk_180 0 108 (dk_at dksX20_wearsOrWayOrWind_4 7 rfl rfl)
theorem dX20_wearsOrWayOrWind_100 : decode cX20_wearsOrWayOrWind 100 = .ok (.iconst 3, 1) := dk_6 (dk_at dksX20_wearsOrWayOrWind_4 10 rfl rfl)
theorem dX20_wearsOrWayOrWind_101 : decode cX20_wearsOrWayOrWind 101 = .ok (.aload_n 0, 1) := dk_42 (dk_at dksX20_wearsOrWayOrWind_4 11 rfl rfl)
theorem dX20_wearsOrWayOrWind_102 : decode cX20_wearsOrWayOrWind 102 = .ok (.iconst 0, 1) := dk_3 (dk_at dksX20_wearsOrWayOrWind_4 12 rfl rfl)
theorem dX20_wearsOrWayOrWind_103 : decode cX20_wearsOrWayOrWind 103 = .ok (.bipush 60, 2) := dk_16 60 (dk_at dksX20_wearsOrWayOrWind_4 13 rfl rfl)
theorem dX20_wearsOrWayOrWind_105 : decode cX20_wearsOrWayOrWind 105 = .ok (.invokevirtual 74, 3) := dk_182 0 74 (dk_at dksX20_wearsOrWayOrWind_4 15 rfl rfl)
theorem dX20_wearsOrWayOrWind_108 : decode cX20_wearsOrWayOrWind 108 = .ok (.iastore, 1) := dk_79 (dk_at dksX20_wearsOrWayOrWind_4 18 rfl rfl)
theorem dX20_wearsOrWayOrWind_109 : decode cX20_wearsOrWayOrWind 109 = .ok (.return_, 1) := dk_177 (dk_at dksX20_wearsOrWayOrWind_4 19 rfl rfl)
abbrev cX20_one : ByteArray := prog_13_method_10_code
def yX20_one : MethodName := ⟨RX20, "one", "()I"⟩
def dkwX20_one_0 : List UInt8 := [42, 3, 42, 180, 0, 15, 180, 0, 69, 4, 100, 182, 0, 74, 172]
abbrev dktX20_one_0 : List UInt8 := dkwX20_one_0 ++ []
theorem dksX20_one_0 : cX20_one.data.toList.drop 0 = dktX20_one_0 := by decide +kernel
theorem dX20_one_0 : decode cX20_one 0 = .ok (.aload_n 0, 1) := dk_42 (dk_at dksX20_one_0 0 rfl rfl)
theorem dX20_one_1 : decode cX20_one 1 = .ok (.iconst 0, 1) := dk_3 (dk_at dksX20_one_0 1 rfl rfl)
theorem dX20_one_2 : decode cX20_one 2 = .ok (.aload_n 0, 1) := dk_42 (dk_at dksX20_one_0 2 rfl rfl)
theorem dX20_one_3 : decode cX20_one 3 = .ok (.getfield 15, 3) := dk_180 0 15 (dk_at dksX20_one_0 3 rfl rfl)
theorem dX20_one_6 : decode cX20_one 6 = .ok (.getfield 69, 3) := dk_180 0 69 (dk_at dksX20_one_0 6 rfl rfl)
theorem dX20_one_9 : decode cX20_one 9 = .ok (.iconst 1, 1) := dk_4 (dk_at dksX20_one_0 9 rfl rfl)
theorem dX20_one_10 : decode cX20_one 10 = .ok (.isub, 1) := dk_100 (dk_at dksX20_one_0 10 rfl rfl)
theorem dX20_one_11 : decode cX20_one 11 = .ok (.invokevirtual 74, 3) := dk_182 0 74 (dk_at dksX20_one_0 11 rfl rfl)
theorem dX20_one_14 : decode cX20_one 14 = .ok (.ireturn, 1) := dk_172 (dk_at dksX20_one_0 14 rfl rfl)
theorem q124 : (Jvm.Cond.initialized "InASackToTheRope$Reader") ∈ lw_all := lw_g (lw_at lw_m1 31 rfl) rfl
theorem q253 : (Jvm.Cond.fieldLink "InASackToTheRope$Reader" (69 : Nat) "InASackToTheRope$Field" "many" "I") ∈ lw_all := lw_g (lw_at lw_m1 160 rfl) rfl
theorem q256 : (Jvm.Cond.fieldLink "InASackToTheRope$Reader" (90 : Nat) "InASackToTheRope$Field" "sacks" "I") ∈ lw_all := lw_g (lw_at lw_m1 163 rfl) rfl
theorem q267 : (Jvm.Cond.fieldLink "InASackToTheRope$Reader" (108 : Nat) "InASackToTheRope$Field" "asked" "[I") ∈ lw_all := lw_g (lw_at lw_m1 174 rfl) rfl
theorem q279 : (Jvm.Cond.fieldLink "InASackToTheRope$Reader" (102 : Nat) "InASackToTheRope$Field" "worn" "[I") ∈ lw_all := lw_g (lw_at lw_m1 186 rfl) rfl
theorem q283 : (Jvm.Cond.fieldLink "InASackToTheRope$Reader" (122 : Nat) "InASackToTheRope$Field" "ahead" "[I") ∈ lw_all := lw_g (lw_at lw_m1 190 rfl) rfl
theorem q955 : (Jvm.Cond.instantiable "InASackToTheRope$Reader" (4 : Nat)) ∈ lw_all := lw_g (lw_at lw_m4 142 rfl) rfl
theorem q957 : (Jvm.Cond.instanceMethod ({ cls := "InASackToTheRope$Reader", name := "<init>", desc := "(LInASackToTheRope$Row;LInASackToTheRope$Field;)V" } : Jvm.MethodName)) ∈ lw_all := lw_g (lw_at lw_m4 144 rfl) rfl
theorem q958 : (Jvm.Cond.code ({ cls := "InASackToTheRope$Reader", name := "<init>", desc := "(LInASackToTheRope$Row;LInASackToTheRope$Field;)V" } : Jvm.MethodName) prog_13_method_1_code (3 : Nat) (Option.none : Option Jvm.ClassFile.FieldType)) ∈ lw_all := lw_g (lw_at lw_m4 145 rfl) rfl
theorem q959 : (Jvm.Cond.methodLink "InASackToTheRope$Reader" (3 : Nat) ({ cls := "java/lang/Object", name := "<init>", desc := "()V" } : Jvm.MethodName)) ∈ lw_all := lw_g (lw_at lw_m4 146 rfl) rfl
theorem q960 : (Jvm.Cond.fieldLink "InASackToTheRope$Reader" (9 : Nat) "InASackToTheRope$Reader" "text" "LInASackToTheRope$Row;") ∈ lw_all := lw_g (lw_at lw_m4 147 rfl) rfl
theorem q961 : (Jvm.Cond.fieldLink "InASackToTheRope$Reader" (15 : Nat) "InASackToTheRope$Reader" "w" "LInASackToTheRope$Field;") ∈ lw_all := lw_g (lw_at lw_m4 148 rfl) rfl
theorem q962 : (Jvm.Cond.fieldLink "InASackToTheRope$Reader" (19 : Nat) "InASackToTheRope$Reader" "at" "I") ∈ lw_all := lw_g (lw_at lw_m4 149 rfl) rfl
theorem q963 : (Jvm.Cond.fieldLink "InASackToTheRope$Reader" (56 : Nat) "InASackToTheRope$Reader" "place" "I") ∈ lw_all := lw_g (lw_at lw_m4 150 rfl) rfl
theorem q964 : (Jvm.Cond.laysFinal "InASackToTheRope$Reader" "InASackToTheRope$Reader" "text" "LInASackToTheRope$Row;") ∈ lw_all := lw_g (lw_at lw_m4 151 rfl) rfl
theorem q965 : (Jvm.Cond.soleField "InASackToTheRope$Reader" "text") ∈ lw_all := lw_g (lw_at lw_m4 152 rfl) rfl
theorem q966 : (Jvm.Cond.laysFinal "InASackToTheRope$Reader" "InASackToTheRope$Reader" "w" "LInASackToTheRope$Field;") ∈ lw_all := lw_g (lw_at lw_m4 153 rfl) rfl
theorem q967 : (Jvm.Cond.soleField "InASackToTheRope$Reader" "w") ∈ lw_all := lw_g (lw_at lw_m4 154 rfl) rfl
theorem q968 : (Jvm.Cond.lays "InASackToTheRope$Reader" "InASackToTheRope$Reader" "at" "I") ∈ lw_all := lw_g (lw_at lw_m4 155 rfl) rfl
theorem q969 : (Jvm.Cond.soleField "InASackToTheRope$Reader" "at") ∈ lw_all := lw_g (lw_at lw_m4 156 rfl) rfl
theorem q970 : (Jvm.Cond.lays "InASackToTheRope$Reader" "InASackToTheRope$Reader" "place" "I") ∈ lw_all := lw_g (lw_at lw_m4 157 rfl) rfl
theorem q971 : (Jvm.Cond.soleField "InASackToTheRope$Reader" "place") ∈ lw_all := lw_g (lw_at lw_m4 158 rfl) rfl
theorem q972 : (Jvm.Cond.superclass "InASackToTheRope$Reader" "java/lang/Object") ∈ lw_all := lw_g (lw_at lw_m4 159 rfl) rfl
theorem q974 : (Jvm.Cond.instanceMethod ({ cls := "InASackToTheRope$Reader", name := "items", desc := "()I" } : Jvm.MethodName)) ∈ lw_all := lw_g (lw_at lw_m4 161 rfl) rfl
theorem q975 : (Jvm.Cond.selects "InASackToTheRope$Reader" ({ cls := "InASackToTheRope$Reader", name := "items", desc := "()I" } : Jvm.MethodName) ({ cls := "InASackToTheRope$Reader", name := "items", desc := "()I" } : Jvm.MethodName)) ∈ lw_all := lw_g (lw_at lw_m4 162 rfl) rfl
theorem q976 : (Jvm.Cond.code ({ cls := "InASackToTheRope$Reader", name := "items", desc := "()I" } : Jvm.MethodName) prog_13_method_9_code (2 : Nat) (Option.some Jvm.ClassFile.FieldType.int)) ∈ lw_all := lw_g (lw_at lw_m4 163 rfl) rfl
theorem q977 : (Jvm.Cond.methodLink "InASackToTheRope$Reader" (66 : Nat) ({ cls := "InASackToTheRope$Reader", name := "item", desc := "()V" } : Jvm.MethodName)) ∈ lw_all := lw_g (lw_at lw_m4 164 rfl) rfl
theorem q978 : (Jvm.Cond.privateMethod ({ cls := "InASackToTheRope$Reader", name := "item", desc := "()V" } : Jvm.MethodName)) ∈ lw_tbl := lw_at lw_m4 165 rfl
theorem q979 : (Jvm.Cond.instanceMethod ({ cls := "InASackToTheRope$Reader", name := "item", desc := "()V" } : Jvm.MethodName)) ∈ lw_all := lw_g (lw_at lw_m4 166 rfl) rfl
theorem q980 : (Jvm.Cond.code ({ cls := "InASackToTheRope$Reader", name := "item", desc := "()V" } : Jvm.MethodName) prog_13_method_14_code (3 : Nat) (Option.none : Option Jvm.ClassFile.FieldType)) ∈ lw_all := lw_g (lw_at lw_m4 167 rfl) rfl
theorem q981 : (Jvm.Cond.methodLink "InASackToTheRope$Reader" (37 : Nat) ({ cls := "InASackToTheRope$Reader", name := "sees", desc := "(I)Z" } : Jvm.MethodName)) ∈ lw_all := lw_g (lw_at lw_m4 168 rfl) rfl
theorem q982 : (Jvm.Cond.privateMethod ({ cls := "InASackToTheRope$Reader", name := "sees", desc := "(I)Z" } : Jvm.MethodName)) ∈ lw_tbl := lw_at lw_m4 169 rfl
theorem q983 : (Jvm.Cond.instanceMethod ({ cls := "InASackToTheRope$Reader", name := "sees", desc := "(I)Z" } : Jvm.MethodName)) ∈ lw_all := lw_g (lw_at lw_m4 170 rfl) rfl
theorem q984 : (Jvm.Cond.code ({ cls := "InASackToTheRope$Reader", name := "sees", desc := "(I)Z" } : Jvm.MethodName) prog_13_method_3_code (2 : Nat) (Option.some Jvm.ClassFile.FieldType.boolean)) ∈ lw_all := lw_g (lw_at lw_m4 171 rfl) rfl
theorem q985 : (Jvm.Cond.methodLink "InASackToTheRope$Reader" (29 : Nat) ({ cls := "InASackToTheRope$Reader", name := "ends", desc := "()Z" } : Jvm.MethodName)) ∈ lw_all := lw_g (lw_at lw_m4 172 rfl) rfl
theorem q986 : (Jvm.Cond.privateMethod ({ cls := "InASackToTheRope$Reader", name := "ends", desc := "()Z" } : Jvm.MethodName)) ∈ lw_tbl := lw_at lw_m4 173 rfl
theorem q987 : (Jvm.Cond.instanceMethod ({ cls := "InASackToTheRope$Reader", name := "ends", desc := "()Z" } : Jvm.MethodName)) ∈ lw_all := lw_g (lw_at lw_m4 174 rfl) rfl
theorem q988 : (Jvm.Cond.code ({ cls := "InASackToTheRope$Reader", name := "ends", desc := "()Z" } : Jvm.MethodName) prog_13_method_2_code (1 : Nat) (Option.some Jvm.ClassFile.FieldType.boolean)) ∈ lw_all := lw_g (lw_at lw_m4 175 rfl) rfl
theorem q989 : (Jvm.Cond.methodLink "InASackToTheRope$Reader" (23 : Nat) ({ cls := "InASackToTheRope$Row", name := "length", desc := "()I" } : Jvm.MethodName)) ∈ lw_all := lw_g (lw_at lw_m4 176 rfl) rfl
theorem q1004 : (Jvm.Cond.methodLink "InASackToTheRope$Reader" (33 : Nat) ({ cls := "InASackToTheRope$Row", name := "asInt", desc := "(I)I" } : Jvm.MethodName)) ∈ lw_all := lw_g (lw_at lw_m4 191 rfl) rfl
theorem q1013 : (Jvm.Cond.methodLink "InASackToTheRope$Reader" (113 : Nat) ({ cls := "InASackToTheRope$Reader", name := "child", desc := "(I)V" } : Jvm.MethodName)) ∈ lw_all := lw_g (lw_at lw_m4 200 rfl) rfl
theorem q1014 : (Jvm.Cond.privateMethod ({ cls := "InASackToTheRope$Reader", name := "child", desc := "(I)V" } : Jvm.MethodName)) ∈ lw_tbl := lw_at lw_m4 201 rfl
theorem q1015 : (Jvm.Cond.instanceMethod ({ cls := "InASackToTheRope$Reader", name := "child", desc := "(I)V" } : Jvm.MethodName)) ∈ lw_all := lw_g (lw_at lw_m4 202 rfl) rfl
theorem q1016 : (Jvm.Cond.code ({ cls := "InASackToTheRope$Reader", name := "child", desc := "(I)V" } : Jvm.MethodName) prog_13_method_11_code (4 : Nat) (Option.none : Option Jvm.ClassFile.FieldType)) ∈ lw_all := lw_g (lw_at lw_m4 203 rfl) rfl
theorem q1017 : (Jvm.Cond.stringRef "InASackToTheRope$Reader" (78 : Nat) "child") ∈ lw_tbl := lw_at lw_m4 204 rfl
theorem q1018 : (Jvm.Cond.methodLink "InASackToTheRope$Reader" (80 : Nat) ({ cls := "InASackToTheRope$Reader", name := "word", desc := "(Ljava/lang/String;)V" } : Jvm.MethodName)) ∈ lw_all := lw_g (lw_at lw_m4 205 rfl) rfl
theorem q1019 : (Jvm.Cond.privateMethod ({ cls := "InASackToTheRope$Reader", name := "word", desc := "(Ljava/lang/String;)V" } : Jvm.MethodName)) ∈ lw_tbl := lw_at lw_m4 206 rfl
theorem q1020 : (Jvm.Cond.instanceMethod ({ cls := "InASackToTheRope$Reader", name := "word", desc := "(Ljava/lang/String;)V" } : Jvm.MethodName)) ∈ lw_all := lw_g (lw_at lw_m4 207 rfl) rfl
theorem q1021 : (Jvm.Cond.code ({ cls := "InASackToTheRope$Reader", name := "word", desc := "(Ljava/lang/String;)V" } : Jvm.MethodName) prog_13_method_5_code (3 : Nat) (Option.none : Option Jvm.ClassFile.FieldType)) ∈ lw_all := lw_g (lw_at lw_m4 208 rfl) rfl
theorem q1022 : (Jvm.Cond.methodLink "InASackToTheRope$Reader" (46 : Nat) ({ cls := "java/lang/String", name := "length", desc := "()I" } : Jvm.MethodName)) ∈ lw_all := lw_g (lw_at lw_m4 209 rfl) rfl
theorem q1032 : (Jvm.Cond.methodLink "InASackToTheRope$Reader" (49 : Nat) ({ cls := "java/lang/String", name := "charAt", desc := "(I)C" } : Jvm.MethodName)) ∈ lw_all := lw_g (lw_at lw_m4 219 rfl) rfl
theorem q1070 : (Jvm.Cond.methodLink "InASackToTheRope$Reader" (53 : Nat) ({ cls := "InASackToTheRope$Reader", name := "must", desc := "(I)V" } : Jvm.MethodName)) ∈ lw_all := lw_g (lw_at lw_m5 17 rfl) rfl
theorem q1071 : (Jvm.Cond.privateMethod ({ cls := "InASackToTheRope$Reader", name := "must", desc := "(I)V" } : Jvm.MethodName)) ∈ lw_tbl := lw_at lw_m5 18 rfl
theorem q1072 : (Jvm.Cond.instanceMethod ({ cls := "InASackToTheRope$Reader", name := "must", desc := "(I)V" } : Jvm.MethodName)) ∈ lw_all := lw_g (lw_at lw_m5 19 rfl) rfl
theorem q1073 : (Jvm.Cond.code ({ cls := "InASackToTheRope$Reader", name := "must", desc := "(I)V" } : Jvm.MethodName) prog_13_method_4_code (2 : Nat) (Option.none : Option Jvm.ClassFile.FieldType)) ∈ lw_all := lw_g (lw_at lw_m5 20 rfl) rfl
theorem q1074 : (Jvm.Cond.classLink "InASackToTheRope$Reader" (41 : Nat) "InASackToTheRope$Faulty") ∈ lw_all := lw_g (lw_at lw_m5 21 rfl) rfl
theorem q1083 : (Jvm.Cond.methodLink "InASackToTheRope$Reader" (43 : Nat) ({ cls := "InASackToTheRope$Faulty", name := "<init>", desc := "(I)V" } : Jvm.MethodName)) ∈ lw_all := lw_g (lw_at lw_m5 30 rfl) rfl
theorem q1093 : (Jvm.Cond.methodLink "InASackToTheRope$Reader" (62 : Nat) ({ cls := "InASackToTheRope$Reader", name := "hasRoom", desc := "(ZI)V" } : Jvm.MethodName)) ∈ lw_all := lw_g (lw_at lw_m5 40 rfl) rfl
theorem q1094 : (Jvm.Cond.privateMethod ({ cls := "InASackToTheRope$Reader", name := "hasRoom", desc := "(ZI)V" } : Jvm.MethodName)) ∈ lw_tbl := lw_at lw_m5 41 rfl
theorem q1095 : (Jvm.Cond.instanceMethod ({ cls := "InASackToTheRope$Reader", name := "hasRoom", desc := "(ZI)V" } : Jvm.MethodName)) ∈ lw_all := lw_g (lw_at lw_m5 42 rfl) rfl
theorem q1096 : (Jvm.Cond.code ({ cls := "InASackToTheRope$Reader", name := "hasRoom", desc := "(ZI)V" } : Jvm.MethodName) prog_13_method_8_code (3 : Nat) (Option.none : Option Jvm.ClassFile.FieldType)) ∈ lw_all := lw_g (lw_at lw_m5 43 rfl) rfl
theorem q1097 : (Jvm.Cond.methodLink "InASackToTheRope$Reader" (74 : Nat) ({ cls := "InASackToTheRope$Reader", name := "number", desc := "(II)I" } : Jvm.MethodName)) ∈ lw_all := lw_g (lw_at lw_m5 44 rfl) rfl
theorem q1098 : (Jvm.Cond.privateMethod ({ cls := "InASackToTheRope$Reader", name := "number", desc := "(II)I" } : Jvm.MethodName)) ∈ lw_tbl := lw_at lw_m5 45 rfl
theorem q1099 : (Jvm.Cond.instanceMethod ({ cls := "InASackToTheRope$Reader", name := "number", desc := "(II)I" } : Jvm.MethodName)) ∈ lw_all := lw_g (lw_at lw_m5 46 rfl) rfl
theorem q1100 : (Jvm.Cond.code ({ cls := "InASackToTheRope$Reader", name := "number", desc := "(II)I" } : Jvm.MethodName) prog_13_method_7_code (5 : Nat) (Option.some Jvm.ClassFile.FieldType.int)) ∈ lw_all := lw_g (lw_at lw_m5 47 rfl) rfl
theorem q1101 : (Jvm.Cond.methodLink "InASackToTheRope$Reader" (59 : Nat) ({ cls := "InASackToTheRope$Reader", name := "digit", desc := "()Z" } : Jvm.MethodName)) ∈ lw_all := lw_g (lw_at lw_m5 48 rfl) rfl
theorem q1102 : (Jvm.Cond.privateMethod ({ cls := "InASackToTheRope$Reader", name := "digit", desc := "()Z" } : Jvm.MethodName)) ∈ lw_tbl := lw_at lw_m5 49 rfl
theorem q1103 : (Jvm.Cond.instanceMethod ({ cls := "InASackToTheRope$Reader", name := "digit", desc := "()Z" } : Jvm.MethodName)) ∈ lw_all := lw_g (lw_at lw_m5 50 rfl) rfl
theorem q1104 : (Jvm.Cond.code ({ cls := "InASackToTheRope$Reader", name := "digit", desc := "()Z" } : Jvm.MethodName) prog_13_method_6_code (1 : Nat) (Option.some Jvm.ClassFile.FieldType.boolean)) ∈ lw_all := lw_g (lw_at lw_m5 51 rfl) rfl
theorem q1105 : (Jvm.Cond.methodLink "InASackToTheRope$Reader" (84 : Nat) ({ cls := "InASackToTheRope$Field", name := "addChild", desc := "(III)V" } : Jvm.MethodName)) ∈ lw_all := lw_g (lw_at lw_m5 52 rfl) rfl
theorem q1106 : (Jvm.Cond.methodLink "InASackToTheRope$Reader" (115 : Nat) ({ cls := "InASackToTheRope$Reader", name := "sack", desc := "(I)V" } : Jvm.MethodName)) ∈ lw_all := lw_g (lw_at lw_m5 53 rfl) rfl
theorem q1107 : (Jvm.Cond.privateMethod ({ cls := "InASackToTheRope$Reader", name := "sack", desc := "(I)V" } : Jvm.MethodName)) ∈ lw_tbl := lw_at lw_m5 54 rfl
theorem q1108 : (Jvm.Cond.instanceMethod ({ cls := "InASackToTheRope$Reader", name := "sack", desc := "(I)V" } : Jvm.MethodName)) ∈ lw_all := lw_g (lw_at lw_m5 55 rfl) rfl
theorem q1109 : (Jvm.Cond.code ({ cls := "InASackToTheRope$Reader", name := "sack", desc := "(I)V" } : Jvm.MethodName) prog_13_method_12_code (3 : Nat) (Option.none : Option Jvm.ClassFile.FieldType)) ∈ lw_all := lw_g (lw_at lw_m5 56 rfl) rfl
theorem q1110 : (Jvm.Cond.stringRef "InASackToTheRope$Reader" (88 : Nat) "sack") ∈ lw_tbl := lw_at lw_m5 57 rfl
theorem q1111 : (Jvm.Cond.methodLink "InASackToTheRope$Reader" (93 : Nat) ({ cls := "InASackToTheRope$Field", name := "addSack", desc := "(II)V" } : Jvm.MethodName)) ∈ lw_all := lw_g (lw_at lw_m5 58 rfl) rfl
theorem q1112 : (Jvm.Cond.methodLink "InASackToTheRope$Reader" (117 : Nat) ({ cls := "InASackToTheRope$Reader", name := "wearsOrWayOrWind", desc := "()V" } : Jvm.MethodName)) ∈ lw_all := lw_g (lw_at lw_m5 59 rfl) rfl
theorem q1113 : (Jvm.Cond.privateMethod ({ cls := "InASackToTheRope$Reader", name := "wearsOrWayOrWind", desc := "()V" } : Jvm.MethodName)) ∈ lw_tbl := lw_at lw_m5 60 rfl
theorem q1114 : (Jvm.Cond.instanceMethod ({ cls := "InASackToTheRope$Reader", name := "wearsOrWayOrWind", desc := "()V" } : Jvm.MethodName)) ∈ lw_all := lw_g (lw_at lw_m5 61 rfl) rfl
theorem q1115 : (Jvm.Cond.code ({ cls := "InASackToTheRope$Reader", name := "wearsOrWayOrWind", desc := "()V" } : Jvm.MethodName) prog_13_method_13_code (2 : Nat) (Option.none : Option Jvm.ClassFile.FieldType)) ∈ lw_all := lw_g (lw_at lw_m5 62 rfl) rfl
theorem q1116 : (Jvm.Cond.stringRef "InASackToTheRope$Reader" (97 : Nat) "ears") ∈ lw_tbl := lw_at lw_m5 63 rfl
theorem q1117 : (Jvm.Cond.methodLink "InASackToTheRope$Reader" (99 : Nat) ({ cls := "InASackToTheRope$Reader", name := "one", desc := "()I" } : Jvm.MethodName)) ∈ lw_all := lw_g (lw_at lw_m5 64 rfl) rfl
theorem q1118 : (Jvm.Cond.privateMethod ({ cls := "InASackToTheRope$Reader", name := "one", desc := "()I" } : Jvm.MethodName)) ∈ lw_tbl := lw_at lw_m5 65 rfl
theorem q1119 : (Jvm.Cond.instanceMethod ({ cls := "InASackToTheRope$Reader", name := "one", desc := "()I" } : Jvm.MethodName)) ∈ lw_all := lw_g (lw_at lw_m5 66 rfl) rfl
theorem q1120 : (Jvm.Cond.code ({ cls := "InASackToTheRope$Reader", name := "one", desc := "()I" } : Jvm.MethodName) prog_13_method_10_code (1 : Nat) (Option.some Jvm.ClassFile.FieldType.int)) ∈ lw_all := lw_g (lw_at lw_m5 67 rfl) rfl
theorem q1121 : (Jvm.Cond.stringRef "InASackToTheRope$Reader" (106 : Nat) "ay") ∈ lw_tbl := lw_at lw_m5 68 rfl
theorem q1122 : (Jvm.Cond.stringRef "InASackToTheRope$Reader" (111 : Nat) "ind") ∈ lw_tbl := lw_at lw_m5 69 rfl
theorem q1123 : (Jvm.Cond.stringRef "InASackToTheRope$Reader" (120 : Nat) "ahead") ∈ lw_tbl := lw_at lw_m5 70 rfl
theorem q1124 : (Jvm.Cond.stringRef "InASackToTheRope$Reader" (124 : Nat) "up") ∈ lw_tbl := lw_at lw_m5 71 rfl
theorem q1125 : (Jvm.Cond.stringRef "InASackToTheRope$Reader" (126 : Nat) "rope") ∈ lw_tbl := lw_at lw_m5 72 rfl
theorem in_X20 : ∀ w ∈ wsX200, w ∈ lw_all := lw_in wsX200 [964, 966, 968, 970] (by decide +kernel) (by decide +kernel)
/-! InASackToTheRope$Faulty -/
set_option maxRecDepth 100000
def RX21 : String := "InASackToTheRope$Faulty"
def TX21 : u_T := fun k => match k with
  | 0 => ("java/lang/Throwable", "cause", "Ljava/lang/Throwable;", false)
  | 1 => ("java/lang/Throwable", "stackTrace", "[Ljava/lang/StackTraceElement;", false)
  | 2 => ("java/lang/Throwable", "suppressedExceptions", "Ljava/util/List;", false)
  | 3 => ("java/lang/Throwable", "detailMessage", "Ljava/lang/String;", false)
  | 4 => ("java/lang/Throwable", "backtrace", "Ljava/lang/Object;", false)
  | 5 => ("java/lang/Throwable", "depth", "I", false)
  | _ => ("InASackToTheRope$Faulty", "place", "I", true)
def tyX21 : Nat → FieldType := fun k => match k with
  | 0 => .object "java/lang/Throwable"
  | 1 => .array (.object "java/lang/StackTraceElement")
  | 2 => .object "java/util/List"
  | 3 => .object "java/lang/String"
  | 4 => .object "java/lang/Object"
  | 5 => .int
  | _ => .int
abbrev wsX210 : List Cond := u_ws RX21 TX21 7
theorem nmX21 : ∀ a, a < 7 → ∀ b, b < 7 → a ≠ b → (TX21 a).2.1 ≠ (TX21 b).2.1 := by decide +kernel
theorem tyX21_ok : ∀ k, k < 7 → parseFieldDescriptor (TX21 k).2.2.1 = some (tyX21 k) := by decide +kernel
abbrev cX21_init : ByteArray := prog_6_method_1_code
def yX21_init : MethodName := ⟨RX21, "<init>", "(I)V"⟩
def dkwX21_init_0 : List UInt8 := [42, 1, 1, 3, 3, 183, 0, 1, 42, 27, 181, 0, 7, 177]
abbrev dktX21_init_0 : List UInt8 := dkwX21_init_0 ++ []
theorem dksX21_init_0 : cX21_init.data.toList.drop 0 = dktX21_init_0 := by decide +kernel
theorem dX21_init_0 : decode cX21_init 0 = .ok (.aload_n 0, 1) := dk_42 (dk_at dksX21_init_0 0 rfl rfl)
theorem dX21_init_1 : decode cX21_init 1 = .ok (.aconst_null, 1) := dk_1 (dk_at dksX21_init_0 1 rfl rfl)
theorem dX21_init_2 : decode cX21_init 2 = .ok (.aconst_null, 1) := dk_1 (dk_at dksX21_init_0 2 rfl rfl)
theorem dX21_init_3 : decode cX21_init 3 = .ok (.iconst 0, 1) := dk_3 (dk_at dksX21_init_0 3 rfl rfl)
theorem dX21_init_4 : decode cX21_init 4 = .ok (.iconst 0, 1) := dk_3 (dk_at dksX21_init_0 4 rfl rfl)
theorem dX21_init_5 : decode cX21_init 5 = .ok (.invokespecial 1, 3) := dk_183 0 1 (dk_at dksX21_init_0 5 rfl rfl)
theorem dX21_init_8 : decode cX21_init 8 = .ok (.aload_n 0, 1) := dk_42 (dk_at dksX21_init_0 8 rfl rfl)
theorem dX21_init_9 : decode cX21_init 9 = .ok (.iload_n 1, 1) := dk_27 (dk_at dksX21_init_0 9 rfl rfl)
theorem dX21_init_10 : decode cX21_init 10 = .ok (.putfield 7, 3) := dk_181 0 7 (dk_at dksX21_init_0 10 rfl rfl)
theorem dX21_init_13 : decode cX21_init 13 = .ok (.return_, 1) := dk_177 (dk_at dksX21_init_0 13 rfl rfl)
theorem q128 : (Jvm.Cond.initialized "InASackToTheRope$Faulty") ∈ lw_all := lw_g (lw_at lw_m1 35 rfl) rfl
theorem q392 : (Jvm.Cond.selects "InASackToTheRope$Faulty" ({ cls := "java/lang/Throwable", name := "fillInStackTrace", desc := "()Ljava/lang/Throwable;" } : Jvm.MethodName) ({ cls := "java/lang/Throwable", name := "fillInStackTrace", desc := "()Ljava/lang/Throwable;" } : Jvm.MethodName)) ∈ lw_all := lw_g (lw_at lw_m2 59 rfl) rfl
theorem q1075 : (Jvm.Cond.instantiable "InASackToTheRope$Faulty" (7 : Nat)) ∈ lw_all := lw_g (lw_at lw_m5 22 rfl) rfl
theorem q1076 : (Jvm.Cond.castable "InASackToTheRope$Faulty" "InASackToTheRope$Faulty") ∈ lw_tbl := lw_at lw_m5 23 rfl
theorem q1077 : (Jvm.Cond.selects "InASackToTheRope$Faulty" ({ cls := "java/lang/Throwable", name := "fillInStackTrace", desc := "(I)Ljava/lang/Throwable;" } : Jvm.MethodName) ({ cls := "java/lang/Throwable", name := "fillInStackTrace", desc := "(I)Ljava/lang/Throwable;" } : Jvm.MethodName)) ∈ lw_all := lw_g (lw_at lw_m5 24 rfl) rfl
theorem q1078 : (Jvm.Cond.lays "InASackToTheRope$Faulty" "java/lang/Throwable" "cause" "Ljava/lang/Throwable;") ∈ lw_all := lw_g (lw_at lw_m5 25 rfl) rfl
theorem q1079 : (Jvm.Cond.lays "InASackToTheRope$Faulty" "java/lang/Throwable" "stackTrace" "[Ljava/lang/StackTraceElement;") ∈ lw_all := lw_g (lw_at lw_m5 26 rfl) rfl
theorem q1080 : (Jvm.Cond.lays "InASackToTheRope$Faulty" "java/lang/Throwable" "suppressedExceptions" "Ljava/util/List;") ∈ lw_all := lw_g (lw_at lw_m5 27 rfl) rfl
theorem q1081 : (Jvm.Cond.lays "InASackToTheRope$Faulty" "java/lang/Throwable" "detailMessage" "Ljava/lang/String;") ∈ lw_all := lw_g (lw_at lw_m5 28 rfl) rfl
theorem q1082 : (Jvm.Cond.lays "InASackToTheRope$Faulty" "java/lang/Throwable" "backtrace" "Ljava/lang/Object;") ∈ lw_all := lw_g (lw_at lw_m5 29 rfl) rfl
theorem q1084 : (Jvm.Cond.instanceMethod ({ cls := "InASackToTheRope$Faulty", name := "<init>", desc := "(I)V" } : Jvm.MethodName)) ∈ lw_all := lw_g (lw_at lw_m5 31 rfl) rfl
theorem q1085 : (Jvm.Cond.code ({ cls := "InASackToTheRope$Faulty", name := "<init>", desc := "(I)V" } : Jvm.MethodName) prog_6_method_1_code (2 : Nat) (Option.none : Option Jvm.ClassFile.FieldType)) ∈ lw_all := lw_g (lw_at lw_m5 32 rfl) rfl
theorem q1086 : (Jvm.Cond.methodLink "InASackToTheRope$Faulty" (1 : Nat) ({ cls := "java/lang/Exception", name := "<init>", desc := "(Ljava/lang/String;Ljava/lang/Throwable;ZZ)V" } : Jvm.MethodName)) ∈ lw_all := lw_g (lw_at lw_m5 33 rfl) rfl
theorem q1087 : (Jvm.Cond.fieldLink "InASackToTheRope$Faulty" (7 : Nat) "InASackToTheRope$Faulty" "place" "I") ∈ lw_all := lw_g (lw_at lw_m5 34 rfl) rfl
theorem q1089 : (Jvm.Cond.laysFinal "InASackToTheRope$Faulty" "InASackToTheRope$Faulty" "place" "I") ∈ lw_all := lw_g (lw_at lw_m5 36 rfl) rfl
theorem q1090 : (Jvm.Cond.soleField "InASackToTheRope$Faulty" "place") ∈ lw_all := lw_g (lw_at lw_m5 37 rfl) rfl
theorem q1091 : (Jvm.Cond.lays "InASackToTheRope$Faulty" "java/lang/Throwable" "depth" "I") ∈ lw_all := lw_g (lw_at lw_m5 38 rfl) rfl
theorem q1092 : (Jvm.Cond.superclass "InASackToTheRope$Faulty" "java/lang/Exception") ∈ lw_all := lw_g (lw_at lw_m5 39 rfl) rfl
theorem in_X21 : ∀ w ∈ wsX210, w ∈ lw_all := lw_in wsX210 [1078, 1079, 1080, 1081, 1082, 1091, 1089] (by decide +kernel) (by decide +kernel)
/-! InASackToTheRope$Given -/
set_option maxRecDepth 100000
def RX3 : String := "InASackToTheRope$Given"
def TX3 : u_T := fun k => match k with
  | 0 => ("InASackToTheRope$Given", "times", "[[I", true)
  | 1 => ("InASackToTheRope$Given", "now", "[I", true)
  | 2 => ("InASackToTheRope$Given", "best", "[I", true)
  | 3 => ("InASackToTheRope$Given", "runner", "LInASackToTheRope$Runner;", true)
  | 4 => ("InASackToTheRope$Given", "w", "LInASackToTheRope$Field;", false)
  | 5 => ("InASackToTheRope$Given", "law", "I", false)
  | 6 => ("InASackToTheRope$Given", "size", "I", false)
  | _ => ("InASackToTheRope$Given", "least", "I", false)
def tyX3 : Nat → FieldType := fun k => match k with
  | 0 => .array (.array .int)
  | 1 => .array .int
  | 2 => .array .int
  | 3 => .object "InASackToTheRope$Runner"
  | 4 => .object "InASackToTheRope$Field"
  | 5 => .int
  | 6 => .int
  | _ => .int
abbrev wsX30 : List Cond := u_ws RX3 TX3 8
theorem nmX3 : ∀ a, a < 8 → ∀ b, b < 8 → a ≠ b → (TX3 a).2.1 ≠ (TX3 b).2.1 := by decide +kernel
theorem tyX3_ok : ∀ k, k < 8 → parseFieldDescriptor (TX3 k).2.2.1 = some (tyX3 k) := by decide +kernel
abbrev cX3_init : ByteArray := prog_8_method_1_code
def yX3_init : MethodName := ⟨RX3, "<init>", "()V"⟩
def dkwX3_init_1 : List UInt8 := [188, 10, 181, 0, 20, 42, 187, 0, 23, 89, 183, 0, 25, 181, 0, 26, 177]
abbrev dktX3_init_1 : List UInt8 := dkwX3_init_1 ++ []
def dkwX3_init_0 : List UInt8 := [42, 183, 0, 3, 42, 8, 16, 8, 197, 0, 9, 2, 181, 0, 11, 42, 8, 188, 10, 181, 0, 16, 42, 8]
abbrev dktX3_init_0 : List UInt8 := dkwX3_init_0 ++ dktX3_init_1
theorem dksX3_init_0 : cX3_init.data.toList.drop 0 = dktX3_init_0 := by decide +kernel
theorem dksX3_init_1 : cX3_init.data.toList.drop 24 = dktX3_init_1 := dk_seg dksX3_init_0 24 rfl rfl
theorem dX3_init_0 : decode cX3_init 0 = .ok (.aload_n 0, 1) := dk_42 (dk_at dksX3_init_0 0 rfl rfl)
theorem dX3_init_1 : decode cX3_init 1 = .ok (.invokespecial 3, 3) := dk_183 0 3 (dk_at dksX3_init_0 1 rfl rfl)
theorem dX3_init_4 : decode cX3_init 4 = .ok (.aload_n 0, 1) := dk_42 (dk_at dksX3_init_0 4 rfl rfl)
theorem dX3_init_5 : decode cX3_init 5 = .ok (.iconst 5, 1) := dk_8 (dk_at dksX3_init_0 5 rfl rfl)
theorem dX3_init_6 : decode cX3_init 6 = .ok (.bipush 8, 2) := dk_16 8 (dk_at dksX3_init_0 6 rfl rfl)
theorem dX3_init_8 : decode cX3_init 8 = .ok (.multianewarray 9 2, 4) := by decide +kernel
theorem dX3_init_12 : decode cX3_init 12 = .ok (.putfield 11, 3) := dk_181 0 11 (dk_at dksX3_init_0 12 rfl rfl)
theorem dX3_init_15 : decode cX3_init 15 = .ok (.aload_n 0, 1) := dk_42 (dk_at dksX3_init_0 15 rfl rfl)
theorem dX3_init_16 : decode cX3_init 16 = .ok (.iconst 5, 1) := dk_8 (dk_at dksX3_init_0 16 rfl rfl)
theorem dX3_init_17 : decode cX3_init 17 = .ok (.newarray .int, 2) := dk_188_10 (dk_at dksX3_init_0 17 rfl rfl)
theorem dX3_init_19 : decode cX3_init 19 = .ok (.putfield 16, 3) := dk_181 0 16 (dk_at dksX3_init_0 19 rfl rfl)
theorem dX3_init_22 : decode cX3_init 22 = .ok (.aload_n 0, 1) := dk_42 (dk_at dksX3_init_0 22 rfl rfl)
theorem dX3_init_23 : decode cX3_init 23 = .ok (.iconst 5, 1) := dk_8 (dk_at dksX3_init_0 23 rfl rfl)
theorem dX3_init_24 : decode cX3_init 24 = .ok (.newarray .int, 2) := dk_188_10 (dk_at dksX3_init_1 0 rfl rfl)
theorem dX3_init_26 : decode cX3_init 26 = .ok (.putfield 20, 3) := dk_181 0 20 (dk_at dksX3_init_1 2 rfl rfl)
theorem dX3_init_29 : decode cX3_init 29 = .ok (.aload_n 0, 1) := dk_42 (dk_at dksX3_init_1 5 rfl rfl)
theorem dX3_init_30 : decode cX3_init 30 = .ok (.new 23, 3) := dk_187 0 23 (dk_at dksX3_init_1 6 rfl rfl)
theorem dX3_init_33 : decode cX3_init 33 = .ok (.dup, 1) := dk_89 (dk_at dksX3_init_1 9 rfl rfl)
theorem dX3_init_34 : decode cX3_init 34 = .ok (.invokespecial 25, 3) := dk_183 0 25 (dk_at dksX3_init_1 10 rfl rfl)
theorem dX3_init_37 : decode cX3_init 37 = .ok (.putfield 26, 3) := dk_181 0 26 (dk_at dksX3_init_1 13 rfl rfl)
theorem dX3_init_40 : decode cX3_init 40 = .ok (.return_, 1) := dk_177 (dk_at dksX3_init_1 16 rfl rfl)
abbrev cX3_of : ByteArray := prog_8_method_4_code
def yX3_of : MethodName := ⟨RX3, "of", "(LInASackToTheRope$Field;II)LInASackToTheRope$Given;"⟩
def dkwX3_of_4 : List UInt8 := [167, 255, 188, 42, 3, 3, 182, 0, 68, 42, 176]
abbrev dktX3_of_4 : List UInt8 := dkwX3_of_4 ++ []
def dkwX3_of_3 : List UInt8 := [21, 4, 50, 21, 4, 21, 5, 182, 0, 76, 182, 0, 80, 79, 132, 5, 1, 167, 255, 203, 132, 4, 1]
abbrev dktX3_of_3 : List UInt8 := dkwX3_of_3 ++ dktX3_of_4
def dkwX3_of_2 : List UInt8 := [180, 0, 11, 21, 4, 50, 21, 5, 42, 180, 0, 26, 42, 180, 0, 59, 42, 180, 0, 59, 180, 0, 72]
abbrev dktX3_of_2 : List UInt8 := dkwX3_of_2 ++ dktX3_of_3
def dkwX3_of_1 : List UInt8 := [21, 4, 29, 162, 0, 68, 3, 54, 5, 21, 5, 42, 180, 0, 59, 180, 0, 63, 162, 0, 47, 42]
abbrev dktX3_of_1 : List UInt8 := dkwX3_of_1 ++ dktX3_of_2
def dkwX3_of_0 : List UInt8 := [42, 43, 181, 0, 59, 42, 28, 181, 0, 43, 42, 29, 181, 0, 30, 42, 2, 181, 0, 50, 3, 54, 4]
abbrev dktX3_of_0 : List UInt8 := dkwX3_of_0 ++ dktX3_of_1
theorem dksX3_of_0 : cX3_of.data.toList.drop 0 = dktX3_of_0 := by decide +kernel
theorem dksX3_of_1 : cX3_of.data.toList.drop 23 = dktX3_of_1 := dk_seg dksX3_of_0 23 rfl rfl
theorem dksX3_of_2 : cX3_of.data.toList.drop 45 = dktX3_of_2 := dk_seg dksX3_of_1 22 rfl rfl
theorem dksX3_of_3 : cX3_of.data.toList.drop 68 = dktX3_of_3 := dk_seg dksX3_of_2 23 rfl rfl
theorem dksX3_of_4 : cX3_of.data.toList.drop 91 = dktX3_of_4 := dk_seg dksX3_of_3 23 rfl rfl
theorem dX3_of_0 : decode cX3_of 0 = .ok (.aload_n 0, 1) := dk_42 (dk_at dksX3_of_0 0 rfl rfl)
theorem dX3_of_1 : decode cX3_of 1 = .ok (.aload_n 1, 1) := dk_43 (dk_at dksX3_of_0 1 rfl rfl)
theorem dX3_of_2 : decode cX3_of 2 = .ok (.putfield 59, 3) := dk_181 0 59 (dk_at dksX3_of_0 2 rfl rfl)
theorem dX3_of_5 : decode cX3_of 5 = .ok (.aload_n 0, 1) := dk_42 (dk_at dksX3_of_0 5 rfl rfl)
theorem dX3_of_6 : decode cX3_of 6 = .ok (.iload_n 2, 1) := dk_28 (dk_at dksX3_of_0 6 rfl rfl)
theorem dX3_of_7 : decode cX3_of 7 = .ok (.putfield 43, 3) := dk_181 0 43 (dk_at dksX3_of_0 7 rfl rfl)
theorem dX3_of_10 : decode cX3_of 10 = .ok (.aload_n 0, 1) := dk_42 (dk_at dksX3_of_0 10 rfl rfl)
theorem dX3_of_11 : decode cX3_of 11 = .ok (.iload_n 3, 1) := dk_29 (dk_at dksX3_of_0 11 rfl rfl)
theorem dX3_of_12 : decode cX3_of 12 = .ok (.putfield 30, 3) := dk_181 0 30 (dk_at dksX3_of_0 12 rfl rfl)
theorem dX3_of_15 : decode cX3_of 15 = .ok (.aload_n 0, 1) := dk_42 (dk_at dksX3_of_0 15 rfl rfl)
theorem dX3_of_16 : decode cX3_of 16 = .ok (.iconst (-1), 1) := dk_2 (dk_at dksX3_of_0 16 rfl rfl)
theorem dX3_of_17 : decode cX3_of 17 = .ok (.putfield 50, 3) := dk_181 0 50 (dk_at dksX3_of_0 17 rfl rfl)
theorem dX3_of_20 : decode cX3_of 20 = .ok (.iconst 0, 1) := dk_3 (dk_at dksX3_of_0 20 rfl rfl)
theorem dX3_of_21 : decode cX3_of 21 = .ok (.istore 4, 2) := dk_54 4 (dk_at dksX3_of_0 21 rfl rfl)
theorem dX3_of_23 : decode cX3_of 23 = .ok (.iload 4, 2) := dk_21 4 (dk_at dksX3_of_1 0 rfl rfl)
theorem dX3_of_25 : decode cX3_of 25 = .ok (.iload_n 3, 1) := dk_29 (dk_at dksX3_of_1 2 rfl rfl)
theorem dX3_of_26 : decode cX3_of 26 = .ok (.if_icmp .ge 68, 3) := dk_162 0 68 (dk_at dksX3_of_1 3 rfl rfl)
theorem dX3_of_29 : decode cX3_of 29 = .ok (.iconst 0, 1) := dk_3 (dk_at dksX3_of_1 6 rfl rfl)
theorem dX3_of_30 : decode cX3_of 30 = .ok (.istore 5, 2) := dk_54 5 (dk_at dksX3_of_1 7 rfl rfl)
theorem dX3_of_32 : decode cX3_of 32 = .ok (.iload 5, 2) := dk_21 5 (dk_at dksX3_of_1 9 rfl rfl)
theorem dX3_of_34 : decode cX3_of 34 = .ok (.aload_n 0, 1) := dk_42 (dk_at dksX3_of_1 11 rfl rfl)
theorem dX3_of_35 : decode cX3_of 35 = .ok (.getfield 59, 3) := dk_180 0 59 (dk_at dksX3_of_1 12 rfl rfl)
theorem dX3_of_38 : decode cX3_of 38 = .ok (.getfield 63, 3) := dk_180 0 63 (dk_at dksX3_of_1 15 rfl rfl)
theorem dX3_of_41 : decode cX3_of 41 = .ok (.if_icmp .ge 47, 3) := dk_162 0 47 (dk_at dksX3_of_1 18 rfl rfl)
theorem dX3_of_44 : decode cX3_of 44 = .ok (.aload_n 0, 1) := dk_42 (dk_at dksX3_of_1 21 rfl rfl)
theorem dX3_of_45 : decode cX3_of 45 = .ok (.getfield 11, 3) := dk_180 0 11 (dk_at dksX3_of_2 0 rfl rfl)
theorem dX3_of_48 : decode cX3_of 48 = .ok (.iload 4, 2) := dk_21 4 (dk_at dksX3_of_2 3 rfl rfl)
theorem dX3_of_50 : decode cX3_of 50 = .ok (.aaload, 1) := dk_50 (dk_at dksX3_of_2 5 rfl rfl)
theorem dX3_of_51 : decode cX3_of 51 = .ok (.iload 5, 2) := dk_21 5 (dk_at dksX3_of_2 6 rfl rfl)
theorem dX3_of_53 : decode cX3_of 53 = .ok (.aload_n 0, 1) := dk_42 (dk_at dksX3_of_2 8 rfl rfl)
theorem dX3_of_54 : decode cX3_of 54 = .ok (.getfield 26, 3) := dk_180 0 26 (dk_at dksX3_of_2 9 rfl rfl)
theorem dX3_of_57 : decode cX3_of 57 = .ok (.aload_n 0, 1) := dk_42 (dk_at dksX3_of_2 12 rfl rfl)
theorem dX3_of_58 : decode cX3_of 58 = .ok (.getfield 59, 3) := dk_180 0 59 (dk_at dksX3_of_2 13 rfl rfl)
theorem dX3_of_61 : decode cX3_of 61 = .ok (.aload_n 0, 1) := dk_42 (dk_at dksX3_of_2 16 rfl rfl)
theorem dX3_of_62 : decode cX3_of 62 = .ok (.getfield 59, 3) := dk_180 0 59 (dk_at dksX3_of_2 17 rfl rfl)
theorem dX3_of_65 : decode cX3_of 65 = .ok (.getfield 72, 3) := dk_180 0 72 (dk_at dksX3_of_2 20 rfl rfl)
theorem dX3_of_68 : decode cX3_of 68 = .ok (.iload 4, 2) := dk_21 4 (dk_at dksX3_of_3 0 rfl rfl)
theorem dX3_of_70 : decode cX3_of 70 = .ok (.aaload, 1) := dk_50 (dk_at dksX3_of_3 2 rfl rfl)
theorem dX3_of_71 : decode cX3_of 71 = .ok (.iload 4, 2) := dk_21 4 (dk_at dksX3_of_3 3 rfl rfl)
theorem dX3_of_73 : decode cX3_of 73 = .ok (.iload 5, 2) := dk_21 5 (dk_at dksX3_of_3 5 rfl rfl)
theorem dX3_of_75 : decode cX3_of 75 = .ok (.invokevirtual 76, 3) := dk_182 0 76 (dk_at dksX3_of_3 7 rfl rfl)
theorem dX3_of_78 : decode cX3_of 78 = .ok (.invokevirtual 80, 3) := dk_182 0 80 (dk_at dksX3_of_3 10 rfl rfl)
theorem dX3_of_81 : decode cX3_of 81 = .ok (.iastore, 1) := dk_79 (dk_at dksX3_of_3 13 rfl rfl)
theorem dX3_of_82 : decode cX3_of 82 = .ok (.iinc 5 1, 3) := dk_132 5 1 (dk_at dksX3_of_3 14 rfl rfl)
theorem dX3_of_85 : decode cX3_of 85 = .ok (.goto (-53), 3) := dk_167 255 203 (dk_at dksX3_of_3 17 rfl rfl)
theorem dX3_of_88 : decode cX3_of 88 = .ok (.iinc 4 1, 3) := dk_132 4 1 (dk_at dksX3_of_3 20 rfl rfl)
theorem dX3_of_91 : decode cX3_of 91 = .ok (.goto (-68), 3) := dk_167 255 188 (dk_at dksX3_of_4 0 rfl rfl)
theorem dX3_of_94 : decode cX3_of 94 = .ok (.aload_n 0, 1) := dk_42 (dk_at dksX3_of_4 3 rfl rfl)
theorem dX3_of_95 : decode cX3_of 95 = .ok (.iconst 0, 1) := dk_3 (dk_at dksX3_of_4 4 rfl rfl)
theorem dX3_of_96 : decode cX3_of 96 = .ok (.iconst 0, 1) := dk_3 (dk_at dksX3_of_4 5 rfl rfl)
theorem dX3_of_97 : decode cX3_of 97 = .ok (.invokevirtual 68, 3) := dk_182 0 68 (dk_at dksX3_of_4 6 rfl rfl)
theorem dX3_of_100 : decode cX3_of 100 = .ok (.aload_n 0, 1) := dk_42 (dk_at dksX3_of_4 9 rfl rfl)
theorem dX3_of_101 : decode cX3_of 101 = .ok (.areturn, 1) := dk_176 (dk_at dksX3_of_4 10 rfl rfl)
abbrev cX3_seek : ByteArray := prog_8_method_3_code
def yX3_seek : MethodName := ⟨RX3, "seek", "(II)V"⟩
def dkwX3_seek_4 : List UInt8 := [132, 3, 1, 167, 255, 215, 177]
abbrev dktX3_seek_4 : List UInt8 := dkwX3_seek_4 ++ []
def dkwX3_seek_3 : List UInt8 := [126, 154, 0, 22, 42, 180, 0, 16, 27, 29, 79, 42, 27, 4, 96, 28, 4, 29, 120, 128, 182, 0, 68]
abbrev dktX3_seek_3 : List UInt8 := dkwX3_seek_3 ++ dktX3_seek_4
def dkwX3_seek_2 : List UInt8 := [180, 0, 30, 184, 0, 53, 177, 3, 62, 29, 42, 180, 0, 59, 180, 0, 63, 162, 0, 36, 28, 29, 122, 4]
abbrev dktX3_seek_2 : List UInt8 := dkwX3_seek_2 ++ dktX3_seek_3
def dkwX3_seek_1 : List UInt8 := [180, 0, 50, 162, 0, 25, 42, 29, 181, 0, 50, 42, 180, 0, 16, 3, 42, 180, 0, 20, 3, 42]
abbrev dktX3_seek_1 : List UInt8 := dkwX3_seek_1 ++ dktX3_seek_2
def dkwX3_seek_0 : List UInt8 := [27, 42, 180, 0, 30, 160, 0, 47, 42, 182, 0, 46, 62, 42, 180, 0, 50, 2, 159, 0, 11, 29, 42]
abbrev dktX3_seek_0 : List UInt8 := dkwX3_seek_0 ++ dktX3_seek_1
theorem dksX3_seek_0 : cX3_seek.data.toList.drop 0 = dktX3_seek_0 := by decide +kernel
theorem dksX3_seek_1 : cX3_seek.data.toList.drop 23 = dktX3_seek_1 := dk_seg dksX3_seek_0 23 rfl rfl
theorem dksX3_seek_2 : cX3_seek.data.toList.drop 45 = dktX3_seek_2 := dk_seg dksX3_seek_1 22 rfl rfl
theorem dksX3_seek_3 : cX3_seek.data.toList.drop 69 = dktX3_seek_3 := dk_seg dksX3_seek_2 24 rfl rfl
theorem dksX3_seek_4 : cX3_seek.data.toList.drop 92 = dktX3_seek_4 := dk_seg dksX3_seek_3 23 rfl rfl
theorem dX3_seek_0 : decode cX3_seek 0 = .ok (.iload_n 1, 1) := dk_27 (dk_at dksX3_seek_0 0 rfl rfl)
theorem dX3_seek_1 : decode cX3_seek 1 = .ok (.aload_n 0, 1) := dk_42 (dk_at dksX3_seek_0 1 rfl rfl)
theorem dX3_seek_2 : decode cX3_seek 2 = .ok (.getfield 30, 3) := dk_180 0 30 (dk_at dksX3_seek_0 2 rfl rfl)
theorem dX3_seek_5 : decode cX3_seek 5 = .ok (.if_icmp .ne 47, 3) := dk_160 0 47 (dk_at dksX3_seek_0 5 rfl rfl)
theorem dX3_seek_8 : decode cX3_seek 8 = .ok (.aload_n 0, 1) := dk_42 (dk_at dksX3_seek_0 8 rfl rfl)
theorem dX3_seek_9 : decode cX3_seek 9 = .ok (.invokevirtual 46, 3) := dk_182 0 46 (dk_at dksX3_seek_0 9 rfl rfl)
theorem dX3_seek_12 : decode cX3_seek 12 = .ok (.istore_n 3, 1) := dk_62 (dk_at dksX3_seek_0 12 rfl rfl)
theorem dX3_seek_13 : decode cX3_seek 13 = .ok (.aload_n 0, 1) := dk_42 (dk_at dksX3_seek_0 13 rfl rfl)
theorem dX3_seek_14 : decode cX3_seek 14 = .ok (.getfield 50, 3) := dk_180 0 50 (dk_at dksX3_seek_0 14 rfl rfl)
theorem dX3_seek_17 : decode cX3_seek 17 = .ok (.iconst (-1), 1) := dk_2 (dk_at dksX3_seek_0 17 rfl rfl)
theorem dX3_seek_18 : decode cX3_seek 18 = .ok (.if_icmp .eq 11, 3) := dk_159 0 11 (dk_at dksX3_seek_0 18 rfl rfl)
theorem dX3_seek_21 : decode cX3_seek 21 = .ok (.iload_n 3, 1) := dk_29 (dk_at dksX3_seek_0 21 rfl rfl)
theorem dX3_seek_22 : decode cX3_seek 22 = .ok (.aload_n 0, 1) := dk_42 (dk_at dksX3_seek_0 22 rfl rfl)
theorem dX3_seek_23 : decode cX3_seek 23 = .ok (.getfield 50, 3) := dk_180 0 50 (dk_at dksX3_seek_1 0 rfl rfl)
theorem dX3_seek_26 : decode cX3_seek 26 = .ok (.if_icmp .ge 25, 3) := dk_162 0 25 (dk_at dksX3_seek_1 3 rfl rfl)
theorem dX3_seek_29 : decode cX3_seek 29 = .ok (.aload_n 0, 1) := dk_42 (dk_at dksX3_seek_1 6 rfl rfl)
theorem dX3_seek_30 : decode cX3_seek 30 = .ok (.iload_n 3, 1) := dk_29 (dk_at dksX3_seek_1 7 rfl rfl)
theorem dX3_seek_31 : decode cX3_seek 31 = .ok (.putfield 50, 3) := dk_181 0 50 (dk_at dksX3_seek_1 8 rfl rfl)
theorem dX3_seek_34 : decode cX3_seek 34 = .ok (.aload_n 0, 1) := dk_42 (dk_at dksX3_seek_1 11 rfl rfl)
theorem dX3_seek_35 : decode cX3_seek 35 = .ok (.getfield 16, 3) := dk_180 0 16 (dk_at dksX3_seek_1 12 rfl rfl)
theorem dX3_seek_38 : decode cX3_seek 38 = .ok (.iconst 0, 1) := dk_3 (dk_at dksX3_seek_1 15 rfl rfl)
theorem dX3_seek_39 : decode cX3_seek 39 = .ok (.aload_n 0, 1) := dk_42 (dk_at dksX3_seek_1 16 rfl rfl)
theorem dX3_seek_40 : decode cX3_seek 40 = .ok (.getfield 20, 3) := dk_180 0 20 (dk_at dksX3_seek_1 17 rfl rfl)
theorem dX3_seek_43 : decode cX3_seek 43 = .ok (.iconst 0, 1) := dk_3 (dk_at dksX3_seek_1 20 rfl rfl)
theorem dX3_seek_44 : decode cX3_seek 44 = .ok (.aload_n 0, 1) := dk_42 (dk_at dksX3_seek_1 21 rfl rfl)
theorem dX3_seek_45 : decode cX3_seek 45 = .ok (.getfield 30, 3) := dk_180 0 30 (dk_at dksX3_seek_2 0 rfl rfl)
theorem dX3_seek_48 : decode cX3_seek 48 = .ok (.invokestatic 53, 3) := dk_184 0 53 (dk_at dksX3_seek_2 3 rfl rfl)
theorem dX3_seek_51 : decode cX3_seek 51 = .ok (.return_, 1) := dk_177 (dk_at dksX3_seek_2 6 rfl rfl)
theorem dX3_seek_52 : decode cX3_seek 52 = .ok (.iconst 0, 1) := dk_3 (dk_at dksX3_seek_2 7 rfl rfl)
theorem dX3_seek_53 : decode cX3_seek 53 = .ok (.istore_n 3, 1) := dk_62 (dk_at dksX3_seek_2 8 rfl rfl)
theorem dX3_seek_54 : decode cX3_seek 54 = .ok (.iload_n 3, 1) := dk_29 (dk_at dksX3_seek_2 9 rfl rfl)
theorem dX3_seek_55 : decode cX3_seek 55 = .ok (.aload_n 0, 1) := dk_42 (dk_at dksX3_seek_2 10 rfl rfl)
theorem dX3_seek_56 : decode cX3_seek 56 = .ok (.getfield 59, 3) := dk_180 0 59 (dk_at dksX3_seek_2 11 rfl rfl)
theorem dX3_seek_59 : decode cX3_seek 59 = .ok (.getfield 63, 3) := dk_180 0 63 (dk_at dksX3_seek_2 14 rfl rfl)
theorem dX3_seek_62 : decode cX3_seek 62 = .ok (.if_icmp .ge 36, 3) := dk_162 0 36 (dk_at dksX3_seek_2 17 rfl rfl)
theorem dX3_seek_65 : decode cX3_seek 65 = .ok (.iload_n 2, 1) := dk_28 (dk_at dksX3_seek_2 20 rfl rfl)
theorem dX3_seek_66 : decode cX3_seek 66 = .ok (.iload_n 3, 1) := dk_29 (dk_at dksX3_seek_2 21 rfl rfl)
theorem dX3_seek_67 : decode cX3_seek 67 = .ok (.ishr, 1) := dk_122 (dk_at dksX3_seek_2 22 rfl rfl)
theorem dX3_seek_68 : decode cX3_seek 68 = .ok (.iconst 1, 1) := dk_4 (dk_at dksX3_seek_2 23 rfl rfl)
theorem dX3_seek_69 : decode cX3_seek 69 = .ok (.iand, 1) := dk_126 (dk_at dksX3_seek_3 0 rfl rfl)
theorem dX3_seek_70 : decode cX3_seek 70 = .ok (.ifCond .ne 22, 3) := dk_154 0 22 (dk_at dksX3_seek_3 1 rfl rfl)
theorem dX3_seek_73 : decode cX3_seek 73 = .ok (.aload_n 0, 1) := dk_42 (dk_at dksX3_seek_3 4 rfl rfl)
theorem dX3_seek_74 : decode cX3_seek 74 = .ok (.getfield 16, 3) := dk_180 0 16 (dk_at dksX3_seek_3 5 rfl rfl)
theorem dX3_seek_77 : decode cX3_seek 77 = .ok (.iload_n 1, 1) := dk_27 (dk_at dksX3_seek_3 8 rfl rfl)
theorem dX3_seek_78 : decode cX3_seek 78 = .ok (.iload_n 3, 1) := dk_29 (dk_at dksX3_seek_3 9 rfl rfl)
theorem dX3_seek_79 : decode cX3_seek 79 = .ok (.iastore, 1) := dk_79 (dk_at dksX3_seek_3 10 rfl rfl)
theorem dX3_seek_80 : decode cX3_seek 80 = .ok (.aload_n 0, 1) := dk_42 (dk_at dksX3_seek_3 11 rfl rfl)
theorem dX3_seek_81 : decode cX3_seek 81 = .ok (.iload_n 1, 1) := dk_27 (dk_at dksX3_seek_3 12 rfl rfl)
theorem dX3_seek_82 : decode cX3_seek 82 = .ok (.iconst 1, 1) := dk_4 (dk_at dksX3_seek_3 13 rfl rfl)
theorem dX3_seek_83 : decode cX3_seek 83 = .ok (.iadd, 1) := dk_96 (dk_at dksX3_seek_3 14 rfl rfl)
theorem dX3_seek_84 : decode cX3_seek 84 = .ok (.iload_n 2, 1) := dk_28 (dk_at dksX3_seek_3 15 rfl rfl)
theorem dX3_seek_85 : decode cX3_seek 85 = .ok (.iconst 1, 1) := dk_4 (dk_at dksX3_seek_3 16 rfl rfl)
theorem dX3_seek_86 : decode cX3_seek 86 = .ok (.iload_n 3, 1) := dk_29 (dk_at dksX3_seek_3 17 rfl rfl)
theorem dX3_seek_87 : decode cX3_seek 87 = .ok (.ishl, 1) := dk_120 (dk_at dksX3_seek_3 18 rfl rfl)
theorem dX3_seek_88 : decode cX3_seek 88 = .ok (.ior, 1) := dk_128 (dk_at dksX3_seek_3 19 rfl rfl)
theorem dX3_seek_89 : decode cX3_seek 89 = .ok (.invokevirtual 68, 3) := dk_182 0 68 (dk_at dksX3_seek_3 20 rfl rfl)
theorem dX3_seek_92 : decode cX3_seek 92 = .ok (.iinc 3 1, 3) := dk_132 3 1 (dk_at dksX3_seek_4 0 rfl rfl)
theorem dX3_seek_95 : decode cX3_seek 95 = .ok (.goto (-41), 3) := dk_167 255 215 (dk_at dksX3_seek_4 3 rfl rfl)
theorem dX3_seek_98 : decode cX3_seek 98 = .ok (.return_, 1) := dk_177 (dk_at dksX3_seek_4 6 rfl rfl)
abbrev cX3_worth : ByteArray := prog_8_method_2_code
def yX3_worth : MethodName := ⟨RX3, "worth", "()I"⟩
def dkwX3_worth_3 : List UInt8 := [167, 0, 18, 42, 180, 0, 43, 4, 160, 0, 7, 28, 167, 0, 6, 28, 29, 100, 172]
abbrev dktX3_worth_3 : List UInt8 := dkwX3_worth_3 ++ []
def dkwX3_worth_2 : List UInt8 := [61, 29, 21, 5, 184, 0, 40, 62, 132, 4, 1, 167, 255, 208, 42, 180, 0, 43, 154, 0, 7, 27]
abbrev dktX3_worth_2 : List UInt8 := dkwX3_worth_2 ++ dktX3_worth_3
def dkwX3_worth_1 : List UInt8 := [21, 4, 50, 42, 180, 0, 16, 21, 4, 46, 46, 54, 5, 27, 21, 5, 96, 60, 28, 21, 5, 184, 0, 34]
abbrev dktX3_worth_1 : List UInt8 := dkwX3_worth_1 ++ dktX3_worth_2
def dkwX3_worth_0 : List UInt8 := [3, 60, 3, 61, 17, 3, 231, 62, 3, 54, 4, 21, 4, 42, 180, 0, 30, 162, 0, 45, 42, 180, 0, 11]
abbrev dktX3_worth_0 : List UInt8 := dkwX3_worth_0 ++ dktX3_worth_1
theorem dksX3_worth_0 : cX3_worth.data.toList.drop 0 = dktX3_worth_0 := by decide +kernel
theorem dksX3_worth_1 : cX3_worth.data.toList.drop 24 = dktX3_worth_1 := dk_seg dksX3_worth_0 24 rfl rfl
theorem dksX3_worth_2 : cX3_worth.data.toList.drop 48 = dktX3_worth_2 := dk_seg dksX3_worth_1 24 rfl rfl
theorem dksX3_worth_3 : cX3_worth.data.toList.drop 70 = dktX3_worth_3 := dk_seg dksX3_worth_2 22 rfl rfl
theorem dX3_worth_0 : decode cX3_worth 0 = .ok (.iconst 0, 1) := dk_3 (dk_at dksX3_worth_0 0 rfl rfl)
theorem dX3_worth_1 : decode cX3_worth 1 = .ok (.istore_n 1, 1) := dk_60 (dk_at dksX3_worth_0 1 rfl rfl)
theorem dX3_worth_2 : decode cX3_worth 2 = .ok (.iconst 0, 1) := dk_3 (dk_at dksX3_worth_0 2 rfl rfl)
theorem dX3_worth_3 : decode cX3_worth 3 = .ok (.istore_n 2, 1) := dk_61 (dk_at dksX3_worth_0 3 rfl rfl)
theorem dX3_worth_4 : decode cX3_worth 4 = .ok (.sipush 999, 3) := dk_17 3 231 (dk_at dksX3_worth_0 4 rfl rfl)
theorem dX3_worth_7 : decode cX3_worth 7 = .ok (.istore_n 3, 1) := dk_62 (dk_at dksX3_worth_0 7 rfl rfl)
theorem dX3_worth_8 : decode cX3_worth 8 = .ok (.iconst 0, 1) := dk_3 (dk_at dksX3_worth_0 8 rfl rfl)
theorem dX3_worth_9 : decode cX3_worth 9 = .ok (.istore 4, 2) := dk_54 4 (dk_at dksX3_worth_0 9 rfl rfl)
theorem dX3_worth_11 : decode cX3_worth 11 = .ok (.iload 4, 2) := dk_21 4 (dk_at dksX3_worth_0 11 rfl rfl)
theorem dX3_worth_13 : decode cX3_worth 13 = .ok (.aload_n 0, 1) := dk_42 (dk_at dksX3_worth_0 13 rfl rfl)
theorem dX3_worth_14 : decode cX3_worth 14 = .ok (.getfield 30, 3) := dk_180 0 30 (dk_at dksX3_worth_0 14 rfl rfl)
theorem dX3_worth_17 : decode cX3_worth 17 = .ok (.if_icmp .ge 45, 3) := dk_162 0 45 (dk_at dksX3_worth_0 17 rfl rfl)
theorem dX3_worth_20 : decode cX3_worth 20 = .ok (.aload_n 0, 1) := dk_42 (dk_at dksX3_worth_0 20 rfl rfl)
theorem dX3_worth_21 : decode cX3_worth 21 = .ok (.getfield 11, 3) := dk_180 0 11 (dk_at dksX3_worth_0 21 rfl rfl)
theorem dX3_worth_24 : decode cX3_worth 24 = .ok (.iload 4, 2) := dk_21 4 (dk_at dksX3_worth_1 0 rfl rfl)
theorem dX3_worth_26 : decode cX3_worth 26 = .ok (.aaload, 1) := dk_50 (dk_at dksX3_worth_1 2 rfl rfl)
theorem dX3_worth_27 : decode cX3_worth 27 = .ok (.aload_n 0, 1) := dk_42 (dk_at dksX3_worth_1 3 rfl rfl)
theorem dX3_worth_28 : decode cX3_worth 28 = .ok (.getfield 16, 3) := dk_180 0 16 (dk_at dksX3_worth_1 4 rfl rfl)
theorem dX3_worth_31 : decode cX3_worth 31 = .ok (.iload 4, 2) := dk_21 4 (dk_at dksX3_worth_1 7 rfl rfl)
theorem dX3_worth_33 : decode cX3_worth 33 = .ok (.iaload, 1) := dk_46 (dk_at dksX3_worth_1 9 rfl rfl)
theorem dX3_worth_34 : decode cX3_worth 34 = .ok (.iaload, 1) := dk_46 (dk_at dksX3_worth_1 10 rfl rfl)
theorem dX3_worth_35 : decode cX3_worth 35 = .ok (.istore 5, 2) := dk_54 5 (dk_at dksX3_worth_1 11 rfl rfl)
theorem dX3_worth_37 : decode cX3_worth 37 = .ok (.iload_n 1, 1) := dk_27 (dk_at dksX3_worth_1 13 rfl rfl)
theorem dX3_worth_38 : decode cX3_worth 38 = .ok (.iload 5, 2) := dk_21 5 (dk_at dksX3_worth_1 14 rfl rfl)
theorem dX3_worth_40 : decode cX3_worth 40 = .ok (.iadd, 1) := dk_96 (dk_at dksX3_worth_1 16 rfl rfl)
theorem dX3_worth_41 : decode cX3_worth 41 = .ok (.istore_n 1, 1) := dk_60 (dk_at dksX3_worth_1 17 rfl rfl)
theorem dX3_worth_42 : decode cX3_worth 42 = .ok (.iload_n 2, 1) := dk_28 (dk_at dksX3_worth_1 18 rfl rfl)
theorem dX3_worth_43 : decode cX3_worth 43 = .ok (.iload 5, 2) := dk_21 5 (dk_at dksX3_worth_1 19 rfl rfl)
theorem dX3_worth_45 : decode cX3_worth 45 = .ok (.invokestatic 34, 3) := dk_184 0 34 (dk_at dksX3_worth_1 21 rfl rfl)
theorem dX3_worth_48 : decode cX3_worth 48 = .ok (.istore_n 2, 1) := dk_61 (dk_at dksX3_worth_2 0 rfl rfl)
theorem dX3_worth_49 : decode cX3_worth 49 = .ok (.iload_n 3, 1) := dk_29 (dk_at dksX3_worth_2 1 rfl rfl)
theorem dX3_worth_50 : decode cX3_worth 50 = .ok (.iload 5, 2) := dk_21 5 (dk_at dksX3_worth_2 2 rfl rfl)
theorem dX3_worth_52 : decode cX3_worth 52 = .ok (.invokestatic 40, 3) := dk_184 0 40 (dk_at dksX3_worth_2 4 rfl rfl)
theorem dX3_worth_55 : decode cX3_worth 55 = .ok (.istore_n 3, 1) := dk_62 (dk_at dksX3_worth_2 7 rfl rfl)
theorem dX3_worth_56 : decode cX3_worth 56 = .ok (.iinc 4 1, 3) := dk_132 4 1 (dk_at dksX3_worth_2 8 rfl rfl)
theorem dX3_worth_59 : decode cX3_worth 59 = .ok (.goto (-48), 3) := dk_167 255 208 (dk_at dksX3_worth_2 11 rfl rfl)
theorem dX3_worth_62 : decode cX3_worth 62 = .ok (.aload_n 0, 1) := dk_42 (dk_at dksX3_worth_2 14 rfl rfl)
theorem dX3_worth_63 : decode cX3_worth 63 = .ok (.getfield 43, 3) := dk_180 0 43 (dk_at dksX3_worth_2 15 rfl rfl)
theorem dX3_worth_66 : decode cX3_worth 66 = .ok (.ifCond .ne 7, 3) := dk_154 0 7 (dk_at dksX3_worth_2 18 rfl rfl)
theorem dX3_worth_69 : decode cX3_worth 69 = .ok (.iload_n 1, 1) := dk_27 (dk_at dksX3_worth_2 21 rfl rfl)
theorem dX3_worth_70 : decode cX3_worth 70 = .ok (.goto 18, 3) := dk_167 0 18 (dk_at dksX3_worth_3 0 rfl rfl)
theorem dX3_worth_73 : decode cX3_worth 73 = .ok (.aload_n 0, 1) := dk_42 (dk_at dksX3_worth_3 3 rfl rfl)
theorem dX3_worth_74 : decode cX3_worth 74 = .ok (.getfield 43, 3) := dk_180 0 43 (dk_at dksX3_worth_3 4 rfl rfl)
theorem dX3_worth_77 : decode cX3_worth 77 = .ok (.iconst 1, 1) := dk_4 (dk_at dksX3_worth_3 7 rfl rfl)
theorem dX3_worth_78 : decode cX3_worth 78 = .ok (.if_icmp .ne 7, 3) := dk_160 0 7 (dk_at dksX3_worth_3 8 rfl rfl)
theorem dX3_worth_81 : decode cX3_worth 81 = .ok (.iload_n 2, 1) := dk_28 (dk_at dksX3_worth_3 11 rfl rfl)
theorem dX3_worth_82 : decode cX3_worth 82 = .ok (.goto 6, 3) := dk_167 0 6 (dk_at dksX3_worth_3 12 rfl rfl)
theorem dX3_worth_85 : decode cX3_worth 85 = .ok (.iload_n 2, 1) := dk_28 (dk_at dksX3_worth_3 15 rfl rfl)
theorem dX3_worth_86 : decode cX3_worth 86 = .ok (.iload_n 3, 1) := dk_29 (dk_at dksX3_worth_3 16 rfl rfl)
theorem dX3_worth_87 : decode cX3_worth 87 = .ok (.isub, 1) := dk_100 (dk_at dksX3_worth_3 17 rfl rfl)
theorem dX3_worth_88 : decode cX3_worth 88 = .ok (.ireturn, 1) := dk_172 (dk_at dksX3_worth_3 18 rfl rfl)
theorem q97 : (Jvm.Cond.initialized "InASackToTheRope$Given") ∈ lw_all := lw_g (lw_at lw_m1 4 rfl) rfl
theorem q207 : (Jvm.Cond.instantiable "InASackToTheRope$Given" (8 : Nat)) ∈ lw_all := lw_g (lw_at lw_m1 114 rfl) rfl
theorem q209 : (Jvm.Cond.instanceMethod ({ cls := "InASackToTheRope$Given", name := "<init>", desc := "()V" } : Jvm.MethodName)) ∈ lw_all := lw_g (lw_at lw_m1 116 rfl) rfl
theorem q210 : (Jvm.Cond.code ({ cls := "InASackToTheRope$Given", name := "<init>", desc := "()V" } : Jvm.MethodName) prog_8_method_1_code (1 : Nat) (Option.none : Option Jvm.ClassFile.FieldType)) ∈ lw_all := lw_g (lw_at lw_m1 117 rfl) rfl
theorem q211 : (Jvm.Cond.methodLink "InASackToTheRope$Given" (3 : Nat) ({ cls := "java/lang/Object", name := "<init>", desc := "()V" } : Jvm.MethodName)) ∈ lw_all := lw_g (lw_at lw_m1 118 rfl) rfl
theorem q212 : (Jvm.Cond.classLink "InASackToTheRope$Given" (9 : Nat) "[[I") ∈ lw_all := lw_g (lw_at lw_m1 119 rfl) rfl
theorem q214 : (Jvm.Cond.classLink "InASackToTheRope$Given" (23 : Nat) "InASackToTheRope$Runner") ∈ lw_all := lw_g (lw_at lw_m1 121 rfl) rfl
theorem q215 : (Jvm.Cond.methodLink "InASackToTheRope$Given" (25 : Nat) ({ cls := "InASackToTheRope$Runner", name := "<init>", desc := "()V" } : Jvm.MethodName)) ∈ lw_all := lw_g (lw_at lw_m1 122 rfl) rfl
theorem q216 : (Jvm.Cond.fieldLink "InASackToTheRope$Given" (11 : Nat) "InASackToTheRope$Given" "times" "[[I") ∈ lw_all := lw_g (lw_at lw_m1 123 rfl) rfl
theorem q217 : (Jvm.Cond.fieldLink "InASackToTheRope$Given" (16 : Nat) "InASackToTheRope$Given" "now" "[I") ∈ lw_all := lw_g (lw_at lw_m1 124 rfl) rfl
theorem q218 : (Jvm.Cond.fieldLink "InASackToTheRope$Given" (20 : Nat) "InASackToTheRope$Given" "best" "[I") ∈ lw_all := lw_g (lw_at lw_m1 125 rfl) rfl
theorem q220 : (Jvm.Cond.fieldLink "InASackToTheRope$Given" (26 : Nat) "InASackToTheRope$Given" "runner" "LInASackToTheRope$Runner;") ∈ lw_all := lw_g (lw_at lw_m1 127 rfl) rfl
theorem q221 : (Jvm.Cond.fieldLink "InASackToTheRope$Given" (59 : Nat) "InASackToTheRope$Given" "w" "LInASackToTheRope$Field;") ∈ lw_all := lw_g (lw_at lw_m1 128 rfl) rfl
theorem q222 : (Jvm.Cond.fieldLink "InASackToTheRope$Given" (43 : Nat) "InASackToTheRope$Given" "law" "I") ∈ lw_all := lw_g (lw_at lw_m1 129 rfl) rfl
theorem q223 : (Jvm.Cond.fieldLink "InASackToTheRope$Given" (30 : Nat) "InASackToTheRope$Given" "size" "I") ∈ lw_all := lw_g (lw_at lw_m1 130 rfl) rfl
theorem q224 : (Jvm.Cond.fieldLink "InASackToTheRope$Given" (50 : Nat) "InASackToTheRope$Given" "least" "I") ∈ lw_all := lw_g (lw_at lw_m1 131 rfl) rfl
theorem q226 : (Jvm.Cond.laysFinal "InASackToTheRope$Given" "InASackToTheRope$Given" "times" "[[I") ∈ lw_all := lw_g (lw_at lw_m1 133 rfl) rfl
theorem q227 : (Jvm.Cond.soleField "InASackToTheRope$Given" "times") ∈ lw_all := lw_g (lw_at lw_m1 134 rfl) rfl
theorem q228 : (Jvm.Cond.laysFinal "InASackToTheRope$Given" "InASackToTheRope$Given" "now" "[I") ∈ lw_all := lw_g (lw_at lw_m1 135 rfl) rfl
theorem q229 : (Jvm.Cond.soleField "InASackToTheRope$Given" "now") ∈ lw_all := lw_g (lw_at lw_m1 136 rfl) rfl
theorem q230 : (Jvm.Cond.laysFinal "InASackToTheRope$Given" "InASackToTheRope$Given" "best" "[I") ∈ lw_all := lw_g (lw_at lw_m1 137 rfl) rfl
theorem q231 : (Jvm.Cond.soleField "InASackToTheRope$Given" "best") ∈ lw_all := lw_g (lw_at lw_m1 138 rfl) rfl
theorem q232 : (Jvm.Cond.laysFinal "InASackToTheRope$Given" "InASackToTheRope$Given" "runner" "LInASackToTheRope$Runner;") ∈ lw_all := lw_g (lw_at lw_m1 139 rfl) rfl
theorem q233 : (Jvm.Cond.soleField "InASackToTheRope$Given" "runner") ∈ lw_all := lw_g (lw_at lw_m1 140 rfl) rfl
theorem q234 : (Jvm.Cond.lays "InASackToTheRope$Given" "InASackToTheRope$Given" "w" "LInASackToTheRope$Field;") ∈ lw_all := lw_g (lw_at lw_m1 141 rfl) rfl
theorem q235 : (Jvm.Cond.soleField "InASackToTheRope$Given" "w") ∈ lw_all := lw_g (lw_at lw_m1 142 rfl) rfl
theorem q236 : (Jvm.Cond.lays "InASackToTheRope$Given" "InASackToTheRope$Given" "law" "I") ∈ lw_all := lw_g (lw_at lw_m1 143 rfl) rfl
theorem q237 : (Jvm.Cond.soleField "InASackToTheRope$Given" "law") ∈ lw_all := lw_g (lw_at lw_m1 144 rfl) rfl
theorem q238 : (Jvm.Cond.lays "InASackToTheRope$Given" "InASackToTheRope$Given" "size" "I") ∈ lw_all := lw_g (lw_at lw_m1 145 rfl) rfl
theorem q239 : (Jvm.Cond.soleField "InASackToTheRope$Given" "size") ∈ lw_all := lw_g (lw_at lw_m1 146 rfl) rfl
theorem q240 : (Jvm.Cond.lays "InASackToTheRope$Given" "InASackToTheRope$Given" "least" "I") ∈ lw_all := lw_g (lw_at lw_m1 147 rfl) rfl
theorem q241 : (Jvm.Cond.soleField "InASackToTheRope$Given" "least") ∈ lw_all := lw_g (lw_at lw_m1 148 rfl) rfl
theorem q242 : (Jvm.Cond.superclass "InASackToTheRope$Given" "java/lang/Object") ∈ lw_all := lw_g (lw_at lw_m1 149 rfl) rfl
theorem q255 : (Jvm.Cond.fieldLink "InASackToTheRope$Given" (63 : Nat) "InASackToTheRope$Field" "sacks" "I") ∈ lw_all := lw_g (lw_at lw_m1 162 rfl) rfl
theorem q271 : (Jvm.Cond.fieldLink "InASackToTheRope$Given" (72 : Nat) "InASackToTheRope$Field" "children" "[LInASackToTheRope$Hopper;") ∈ lw_all := lw_g (lw_at lw_m1 178 rfl) rfl
theorem q1256 : (Jvm.Cond.instanceMethod ({ cls := "InASackToTheRope$Given", name := "of", desc := "(LInASackToTheRope$Field;II)LInASackToTheRope$Given;" } : Jvm.MethodName)) ∈ lw_all := lw_g (lw_at lw_m5 203 rfl) rfl
theorem q1257 : (Jvm.Cond.selects "InASackToTheRope$Given" ({ cls := "InASackToTheRope$Given", name := "of", desc := "(LInASackToTheRope$Field;II)LInASackToTheRope$Given;" } : Jvm.MethodName) ({ cls := "InASackToTheRope$Given", name := "of", desc := "(LInASackToTheRope$Field;II)LInASackToTheRope$Given;" } : Jvm.MethodName)) ∈ lw_all := lw_g (lw_at lw_m5 204 rfl) rfl
theorem q1258 : (Jvm.Cond.code ({ cls := "InASackToTheRope$Given", name := "of", desc := "(LInASackToTheRope$Field;II)LInASackToTheRope$Given;" } : Jvm.MethodName) prog_8_method_4_code (6 : Nat) (Option.some (Jvm.ClassFile.FieldType.object "InASackToTheRope$Given"))) ∈ lw_all := lw_g (lw_at lw_m5 205 rfl) rfl
theorem q1259 : (Jvm.Cond.methodLink "InASackToTheRope$Given" (76 : Nat) ({ cls := "InASackToTheRope$Runner", name := "ofKind", desc := "(LInASackToTheRope$Field;LInASackToTheRope$Hopper;II)LInASackToTheRope$Runner;" } : Jvm.MethodName)) ∈ lw_all := lw_g (lw_at lw_m5 206 rfl) rfl
theorem q1260 : (Jvm.Cond.methodLink "InASackToTheRope$Given" (80 : Nat) ({ cls := "InASackToTheRope$Runner", name := "comesIn", desc := "()I" } : Jvm.MethodName)) ∈ lw_all := lw_g (lw_at lw_m5 207 rfl) rfl
theorem q1261 : (Jvm.Cond.methodLink "InASackToTheRope$Given" (68 : Nat) ({ cls := "InASackToTheRope$Given", name := "seek", desc := "(II)V" } : Jvm.MethodName)) ∈ lw_all := lw_g (lw_at lw_m5 208 rfl) rfl
theorem q1262 : (Jvm.Cond.privateMethod ({ cls := "InASackToTheRope$Given", name := "seek", desc := "(II)V" } : Jvm.MethodName)) ∈ lw_tbl := lw_at lw_m5 209 rfl
theorem q1263 : (Jvm.Cond.instanceMethod ({ cls := "InASackToTheRope$Given", name := "seek", desc := "(II)V" } : Jvm.MethodName)) ∈ lw_all := lw_g (lw_at lw_m5 210 rfl) rfl
theorem q1264 : (Jvm.Cond.code ({ cls := "InASackToTheRope$Given", name := "seek", desc := "(II)V" } : Jvm.MethodName) prog_8_method_3_code (4 : Nat) (Option.none : Option Jvm.ClassFile.FieldType)) ∈ lw_all := lw_g (lw_at lw_m5 211 rfl) rfl
theorem q1265 : (Jvm.Cond.methodLink "InASackToTheRope$Given" (46 : Nat) ({ cls := "InASackToTheRope$Given", name := "worth", desc := "()I" } : Jvm.MethodName)) ∈ lw_all := lw_g (lw_at lw_m5 212 rfl) rfl
theorem q1266 : (Jvm.Cond.privateMethod ({ cls := "InASackToTheRope$Given", name := "worth", desc := "()I" } : Jvm.MethodName)) ∈ lw_tbl := lw_at lw_m5 213 rfl
theorem q1267 : (Jvm.Cond.instanceMethod ({ cls := "InASackToTheRope$Given", name := "worth", desc := "()I" } : Jvm.MethodName)) ∈ lw_all := lw_g (lw_at lw_m5 214 rfl) rfl
theorem q1268 : (Jvm.Cond.code ({ cls := "InASackToTheRope$Given", name := "worth", desc := "()I" } : Jvm.MethodName) prog_8_method_2_code (6 : Nat) (Option.some Jvm.ClassFile.FieldType.int)) ∈ lw_all := lw_g (lw_at lw_m5 215 rfl) rfl
theorem q1269 : (Jvm.Cond.methodLink "InASackToTheRope$Given" (34 : Nat) ({ cls := "java/lang/Math", name := "max", desc := "(II)I" } : Jvm.MethodName)) ∈ lw_all := lw_g (lw_at lw_m5 216 rfl) rfl
theorem q1270 : (Jvm.Cond.methodLink "InASackToTheRope$Given" (40 : Nat) ({ cls := "java/lang/Math", name := "min", desc := "(II)I" } : Jvm.MethodName)) ∈ lw_all := lw_g (lw_at lw_m5 217 rfl) rfl
theorem q1271 : (Jvm.Cond.methodLink "InASackToTheRope$Given" (53 : Nat) ({ cls := "java/lang/System", name := "arraycopy", desc := "(Ljava/lang/Object;ILjava/lang/Object;II)V" } : Jvm.MethodName)) ∈ lw_all := lw_g (lw_at lw_m5 218 rfl) rfl
theorem in_X3 : ∀ w ∈ wsX30, w ∈ lw_all := lw_in wsX30 [226, 228, 230, 232, 234, 236, 238, 240] (by decide +kernel) (by decide +kernel)
/-! InASackToTheRope$Field -/
set_option maxRecDepth 100000
def RX4 : String := "InASackToTheRope$Field"
def TX4 : u_T := fun k => match k with
  | 0 => ("InASackToTheRope$Field", "many", "I", false)
  | 1 => ("InASackToTheRope$Field", "sacks", "I", false)
  | 2 => ("InASackToTheRope$Field", "races", "I", false)
  | 3 => ("InASackToTheRope$Field", "rolling", "Z", false)
  | 4 => ("InASackToTheRope$Field", "seed", "I", false)
  | 5 => ("InASackToTheRope$Field", "asked", "[I", true)
  | 6 => ("InASackToTheRope$Field", "children", "[LInASackToTheRope$Hopper;", true)
  | 7 => ("InASackToTheRope$Field", "legs", "[I", true)
  | 8 => ("InASackToTheRope$Field", "worn", "[I", true)
  | 9 => ("InASackToTheRope$Field", "ahead", "[I", true)
  | 10 => ("InASackToTheRope$Field", "won", "[I", true)
  | 11 => ("InASackToTheRope$Field", "length", "[I", true)
  | _ => ("InASackToTheRope$Field", "holes", "[I", true)
def tyX4 : Nat → FieldType := fun k => match k with
  | 0 => .int
  | 1 => .int
  | 2 => .int
  | 3 => .boolean
  | 4 => .int
  | 5 => .array .int
  | 6 => .array (.object "InASackToTheRope$Hopper")
  | 7 => .array .int
  | 8 => .array .int
  | 9 => .array .int
  | 10 => .array .int
  | 11 => .array .int
  | _ => .array .int
abbrev wsX40 : List Cond := u_ws RX4 TX4 13
set_option maxRecDepth 100000 in
theorem nmX4 : ∀ a, a < 13 → ∀ b, b < 13 → a ≠ b → (TX4 a).2.1 ≠ (TX4 b).2.1 := by decide +kernel
set_option maxRecDepth 100000 in
theorem tyX4_ok : ∀ k, k < 13 → parseFieldDescriptor (TX4 k).2.2.1 = some (tyX4 k) := by decide +kernel
abbrev cX4_init : ByteArray := prog_7_method_1_code
def yX4_init : MethodName := ⟨RX4, "<init>", "()V"⟩
def dkwX4_init_3 : List UInt8 := [181, 0, 34, 42, 16, 8, 188, 10, 181, 0, 37, 42, 16, 8, 188, 10, 181, 0, 40, 177]
abbrev dktX4_init_3 : List UInt8 := dkwX4_init_3 ++ []
def dkwX4_init_2 : List UInt8 := [181, 0, 25, 42, 16, 8, 188, 10, 181, 0, 28, 42, 16, 8, 188, 10, 181, 0, 31, 42, 16, 8, 188, 10]
abbrev dktX4_init_2 : List UInt8 := dkwX4_init_2 ++ dktX4_init_3
def dkwX4_init_1 : List UInt8 := [6, 79, 89, 6, 16, 20, 79, 181, 0, 15, 42, 16, 8, 189, 0, 19, 181, 0, 21, 42, 16, 8, 188, 10]
abbrev dktX4_init_1 : List UInt8 := dkwX4_init_1 ++ dktX4_init_2
def dkwX4_init_0 : List UInt8 := [42, 183, 0, 3, 42, 4, 181, 0, 9, 42, 7, 188, 10, 89, 3, 16, 40, 79, 89, 4, 8, 79, 89, 5]
abbrev dktX4_init_0 : List UInt8 := dkwX4_init_0 ++ dktX4_init_1
theorem dksX4_init_0 : cX4_init.data.toList.drop 0 = dktX4_init_0 := by decide +kernel
theorem dksX4_init_1 : cX4_init.data.toList.drop 24 = dktX4_init_1 := dk_seg dksX4_init_0 24 rfl rfl
theorem dksX4_init_2 : cX4_init.data.toList.drop 48 = dktX4_init_2 := dk_seg dksX4_init_1 24 rfl rfl
theorem dksX4_init_3 : cX4_init.data.toList.drop 72 = dktX4_init_3 := dk_seg dksX4_init_2 24 rfl rfl
theorem dX4_init_0 : decode cX4_init 0 = .ok (.aload_n 0, 1) := dk_42 (dk_at dksX4_init_0 0 rfl rfl)
theorem dX4_init_1 : decode cX4_init 1 = .ok (.invokespecial 3, 3) := dk_183 0 3 (dk_at dksX4_init_0 1 rfl rfl)
theorem dX4_init_4 : decode cX4_init 4 = .ok (.aload_n 0, 1) := dk_42 (dk_at dksX4_init_0 4 rfl rfl)
theorem dX4_init_5 : decode cX4_init 5 = .ok (.iconst 1, 1) := dk_4 (dk_at dksX4_init_0 5 rfl rfl)
theorem dX4_init_6 : decode cX4_init 6 = .ok (.putfield 9, 3) := dk_181 0 9 (dk_at dksX4_init_0 6 rfl rfl)
theorem dX4_init_9 : decode cX4_init 9 = .ok (.aload_n 0, 1) := dk_42 (dk_at dksX4_init_0 9 rfl rfl)
theorem dX4_init_10 : decode cX4_init 10 = .ok (.iconst 4, 1) := dk_7 (dk_at dksX4_init_0 10 rfl rfl)
theorem dX4_init_11 : decode cX4_init 11 = .ok (.newarray .int, 2) := dk_188_10 (dk_at dksX4_init_0 11 rfl rfl)
theorem dX4_init_13 : decode cX4_init 13 = .ok (.dup, 1) := dk_89 (dk_at dksX4_init_0 13 rfl rfl)
theorem dX4_init_14 : decode cX4_init 14 = .ok (.iconst 0, 1) := dk_3 (dk_at dksX4_init_0 14 rfl rfl)
theorem dX4_init_15 : decode cX4_init 15 = .ok (.bipush 40, 2) := dk_16 40 (dk_at dksX4_init_0 15 rfl rfl)
theorem dX4_init_17 : decode cX4_init 17 = .ok (.iastore, 1) := dk_79 (dk_at dksX4_init_0 17 rfl rfl)
theorem dX4_init_18 : decode cX4_init 18 = .ok (.dup, 1) := dk_89 (dk_at dksX4_init_0 18 rfl rfl)
theorem dX4_init_19 : decode cX4_init 19 = .ok (.iconst 1, 1) := dk_4 (dk_at dksX4_init_0 19 rfl rfl)
theorem dX4_init_20 : decode cX4_init 20 = .ok (.iconst 5, 1) := dk_8 (dk_at dksX4_init_0 20 rfl rfl)
theorem dX4_init_21 : decode cX4_init 21 = .ok (.iastore, 1) := dk_79 (dk_at dksX4_init_0 21 rfl rfl)
theorem dX4_init_22 : decode cX4_init 22 = .ok (.dup, 1) := dk_89 (dk_at dksX4_init_0 22 rfl rfl)
theorem dX4_init_23 : decode cX4_init 23 = .ok (.iconst 2, 1) := dk_5 (dk_at dksX4_init_0 23 rfl rfl)
theorem dX4_init_24 : decode cX4_init 24 = .ok (.iconst 3, 1) := dk_6 (dk_at dksX4_init_1 0 rfl rfl)
theorem dX4_init_25 : decode cX4_init 25 = .ok (.iastore, 1) := dk_79 (dk_at dksX4_init_1 1 rfl rfl)
theorem dX4_init_26 : decode cX4_init 26 = .ok (.dup, 1) := dk_89 (dk_at dksX4_init_1 2 rfl rfl)
theorem dX4_init_27 : decode cX4_init 27 = .ok (.iconst 3, 1) := dk_6 (dk_at dksX4_init_1 3 rfl rfl)
theorem dX4_init_28 : decode cX4_init 28 = .ok (.bipush 20, 2) := dk_16 20 (dk_at dksX4_init_1 4 rfl rfl)
theorem dX4_init_30 : decode cX4_init 30 = .ok (.iastore, 1) := dk_79 (dk_at dksX4_init_1 6 rfl rfl)
theorem dX4_init_31 : decode cX4_init 31 = .ok (.putfield 15, 3) := dk_181 0 15 (dk_at dksX4_init_1 7 rfl rfl)
theorem dX4_init_34 : decode cX4_init 34 = .ok (.aload_n 0, 1) := dk_42 (dk_at dksX4_init_1 10 rfl rfl)
theorem dX4_init_35 : decode cX4_init 35 = .ok (.bipush 8, 2) := dk_16 8 (dk_at dksX4_init_1 11 rfl rfl)
theorem dX4_init_37 : decode cX4_init 37 = .ok (.anewarray 19, 3) := dk_189 0 19 (dk_at dksX4_init_1 13 rfl rfl)
theorem dX4_init_40 : decode cX4_init 40 = .ok (.putfield 21, 3) := dk_181 0 21 (dk_at dksX4_init_1 16 rfl rfl)
theorem dX4_init_43 : decode cX4_init 43 = .ok (.aload_n 0, 1) := dk_42 (dk_at dksX4_init_1 19 rfl rfl)
theorem dX4_init_44 : decode cX4_init 44 = .ok (.bipush 8, 2) := dk_16 8 (dk_at dksX4_init_1 20 rfl rfl)
theorem dX4_init_46 : decode cX4_init 46 = .ok (.newarray .int, 2) := dk_188_10 (dk_at dksX4_init_1 22 rfl rfl)
theorem dX4_init_48 : decode cX4_init 48 = .ok (.putfield 25, 3) := dk_181 0 25 (dk_at dksX4_init_2 0 rfl rfl)
theorem dX4_init_51 : decode cX4_init 51 = .ok (.aload_n 0, 1) := dk_42 (dk_at dksX4_init_2 3 rfl rfl)
theorem dX4_init_52 : decode cX4_init 52 = .ok (.bipush 8, 2) := dk_16 8 (dk_at dksX4_init_2 4 rfl rfl)
theorem dX4_init_54 : decode cX4_init 54 = .ok (.newarray .int, 2) := dk_188_10 (dk_at dksX4_init_2 6 rfl rfl)
theorem dX4_init_56 : decode cX4_init 56 = .ok (.putfield 28, 3) := dk_181 0 28 (dk_at dksX4_init_2 8 rfl rfl)
theorem dX4_init_59 : decode cX4_init 59 = .ok (.aload_n 0, 1) := dk_42 (dk_at dksX4_init_2 11 rfl rfl)
theorem dX4_init_60 : decode cX4_init 60 = .ok (.bipush 8, 2) := dk_16 8 (dk_at dksX4_init_2 12 rfl rfl)
theorem dX4_init_62 : decode cX4_init 62 = .ok (.newarray .int, 2) := dk_188_10 (dk_at dksX4_init_2 14 rfl rfl)
theorem dX4_init_64 : decode cX4_init 64 = .ok (.putfield 31, 3) := dk_181 0 31 (dk_at dksX4_init_2 16 rfl rfl)
theorem dX4_init_67 : decode cX4_init 67 = .ok (.aload_n 0, 1) := dk_42 (dk_at dksX4_init_2 19 rfl rfl)
theorem dX4_init_68 : decode cX4_init 68 = .ok (.bipush 8, 2) := dk_16 8 (dk_at dksX4_init_2 20 rfl rfl)
theorem dX4_init_70 : decode cX4_init 70 = .ok (.newarray .int, 2) := dk_188_10 (dk_at dksX4_init_2 22 rfl rfl)
theorem dX4_init_72 : decode cX4_init 72 = .ok (.putfield 34, 3) := dk_181 0 34 (dk_at dksX4_init_3 0 rfl rfl)
theorem dX4_init_75 : decode cX4_init 75 = .ok (.aload_n 0, 1) := dk_42 (dk_at dksX4_init_3 3 rfl rfl)
theorem dX4_init_76 : decode cX4_init 76 = .ok (.bipush 8, 2) := dk_16 8 (dk_at dksX4_init_3 4 rfl rfl)
theorem dX4_init_78 : decode cX4_init 78 = .ok (.newarray .int, 2) := dk_188_10 (dk_at dksX4_init_3 6 rfl rfl)
theorem dX4_init_80 : decode cX4_init 80 = .ok (.putfield 37, 3) := dk_181 0 37 (dk_at dksX4_init_3 8 rfl rfl)
theorem dX4_init_83 : decode cX4_init 83 = .ok (.aload_n 0, 1) := dk_42 (dk_at dksX4_init_3 11 rfl rfl)
theorem dX4_init_84 : decode cX4_init 84 = .ok (.bipush 8, 2) := dk_16 8 (dk_at dksX4_init_3 12 rfl rfl)
theorem dX4_init_86 : decode cX4_init 86 = .ok (.newarray .int, 2) := dk_188_10 (dk_at dksX4_init_3 14 rfl rfl)
theorem dX4_init_88 : decode cX4_init 88 = .ok (.putfield 40, 3) := dk_181 0 40 (dk_at dksX4_init_3 16 rfl rfl)
theorem dX4_init_91 : decode cX4_init 91 = .ok (.return_, 1) := dk_177 (dk_at dksX4_init_3 19 rfl rfl)
abbrev cX4_isChild : ByteArray := prog_7_method_5_code
def yX4_isChild : MethodName := ⟨RX4, "isChild", "(I)Z"⟩
def dkwX4_isChild_0 : List UInt8 := [27, 133, 9, 42, 180, 0, 43, 4, 100, 133, 184, 0, 66, 172]
abbrev dktX4_isChild_0 : List UInt8 := dkwX4_isChild_0 ++ []
theorem dksX4_isChild_0 : cX4_isChild.data.toList.drop 0 = dktX4_isChild_0 := by decide +kernel
theorem dX4_isChild_0 : decode cX4_isChild 0 = .ok (.iload_n 1, 1) := dk_27 (dk_at dksX4_isChild_0 0 rfl rfl)
theorem dX4_isChild_1 : decode cX4_isChild 1 = .ok (.i2l, 1) := dk_133 (dk_at dksX4_isChild_0 1 rfl rfl)
theorem dX4_isChild_2 : decode cX4_isChild 2 = .ok (.lconst 0, 1) := dk_9 (dk_at dksX4_isChild_0 2 rfl rfl)
theorem dX4_isChild_3 : decode cX4_isChild 3 = .ok (.aload_n 0, 1) := dk_42 (dk_at dksX4_isChild_0 3 rfl rfl)
theorem dX4_isChild_4 : decode cX4_isChild 4 = .ok (.getfield 43, 3) := dk_180 0 43 (dk_at dksX4_isChild_0 4 rfl rfl)
theorem dX4_isChild_7 : decode cX4_isChild 7 = .ok (.iconst 1, 1) := dk_4 (dk_at dksX4_isChild_0 7 rfl rfl)
theorem dX4_isChild_8 : decode cX4_isChild 8 = .ok (.isub, 1) := dk_100 (dk_at dksX4_isChild_0 8 rfl rfl)
theorem dX4_isChild_9 : decode cX4_isChild 9 = .ok (.i2l, 1) := dk_133 (dk_at dksX4_isChild_0 9 rfl rfl)
theorem dX4_isChild_10 : decode cX4_isChild 10 = .ok (.invokestatic 66, 3) := dk_184 0 66 (dk_at dksX4_isChild_0 10 rfl rfl)
theorem dX4_isChild_13 : decode cX4_isChild 13 = .ok (.ireturn, 1) := dk_172 (dk_at dksX4_isChild_0 13 rfl rfl)
abbrev cX4_strideOf : ByteArray := prog_7_method_9_code
def yX4_strideOf : MethodName := ⟨RX4, "strideOf", "(I)I"⟩
def dkwX4_strideOf_1 : List UInt8 := [46, 182, 0, 80, 182, 0, 84, 172]
abbrev dktX4_strideOf_1 : List UInt8 := dkwX4_strideOf_1 ++ []
def dkwX4_strideOf_0 : List UInt8 := [42, 180, 0, 21, 27, 50, 42, 180, 0, 25, 27, 46, 42, 42, 180, 0, 25, 27, 46, 42, 180, 0, 28, 27]
abbrev dktX4_strideOf_0 : List UInt8 := dkwX4_strideOf_0 ++ dktX4_strideOf_1
theorem dksX4_strideOf_0 : cX4_strideOf.data.toList.drop 0 = dktX4_strideOf_0 := by decide +kernel
theorem dksX4_strideOf_1 : cX4_strideOf.data.toList.drop 24 = dktX4_strideOf_1 := dk_seg dksX4_strideOf_0 24 rfl rfl
theorem dX4_strideOf_0 : decode cX4_strideOf 0 = .ok (.aload_n 0, 1) := dk_42 (dk_at dksX4_strideOf_0 0 rfl rfl)
theorem dX4_strideOf_1 : decode cX4_strideOf 1 = .ok (.getfield 21, 3) := dk_180 0 21 (dk_at dksX4_strideOf_0 1 rfl rfl)
theorem dX4_strideOf_4 : decode cX4_strideOf 4 = .ok (.iload_n 1, 1) := dk_27 (dk_at dksX4_strideOf_0 4 rfl rfl)
theorem dX4_strideOf_5 : decode cX4_strideOf 5 = .ok (.aaload, 1) := dk_50 (dk_at dksX4_strideOf_0 5 rfl rfl)
theorem dX4_strideOf_6 : decode cX4_strideOf 6 = .ok (.aload_n 0, 1) := dk_42 (dk_at dksX4_strideOf_0 6 rfl rfl)
theorem dX4_strideOf_7 : decode cX4_strideOf 7 = .ok (.getfield 25, 3) := dk_180 0 25 (dk_at dksX4_strideOf_0 7 rfl rfl)
theorem dX4_strideOf_10 : decode cX4_strideOf 10 = .ok (.iload_n 1, 1) := dk_27 (dk_at dksX4_strideOf_0 10 rfl rfl)
theorem dX4_strideOf_11 : decode cX4_strideOf 11 = .ok (.iaload, 1) := dk_46 (dk_at dksX4_strideOf_0 11 rfl rfl)
theorem dX4_strideOf_12 : decode cX4_strideOf 12 = .ok (.aload_n 0, 1) := dk_42 (dk_at dksX4_strideOf_0 12 rfl rfl)
theorem dX4_strideOf_13 : decode cX4_strideOf 13 = .ok (.aload_n 0, 1) := dk_42 (dk_at dksX4_strideOf_0 13 rfl rfl)
theorem dX4_strideOf_14 : decode cX4_strideOf 14 = .ok (.getfield 25, 3) := dk_180 0 25 (dk_at dksX4_strideOf_0 14 rfl rfl)
theorem dX4_strideOf_17 : decode cX4_strideOf 17 = .ok (.iload_n 1, 1) := dk_27 (dk_at dksX4_strideOf_0 17 rfl rfl)
theorem dX4_strideOf_18 : decode cX4_strideOf 18 = .ok (.iaload, 1) := dk_46 (dk_at dksX4_strideOf_0 18 rfl rfl)
theorem dX4_strideOf_19 : decode cX4_strideOf 19 = .ok (.aload_n 0, 1) := dk_42 (dk_at dksX4_strideOf_0 19 rfl rfl)
theorem dX4_strideOf_20 : decode cX4_strideOf 20 = .ok (.getfield 28, 3) := dk_180 0 28 (dk_at dksX4_strideOf_0 20 rfl rfl)
theorem dX4_strideOf_23 : decode cX4_strideOf 23 = .ok (.iload_n 1, 1) := dk_27 (dk_at dksX4_strideOf_0 23 rfl rfl)
theorem dX4_strideOf_24 : decode cX4_strideOf 24 = .ok (.iaload, 1) := dk_46 (dk_at dksX4_strideOf_1 0 rfl rfl)
theorem dX4_strideOf_25 : decode cX4_strideOf 25 = .ok (.invokevirtual 80, 3) := dk_182 0 80 (dk_at dksX4_strideOf_1 1 rfl rfl)
theorem dX4_strideOf_28 : decode cX4_strideOf 28 = .ok (.invokevirtual 84, 3) := dk_182 0 84 (dk_at dksX4_strideOf_1 4 rfl rfl)
theorem dX4_strideOf_31 : decode cX4_strideOf 31 = .ok (.ireturn, 1) := dk_172 (dk_at dksX4_strideOf_1 7 rfl rfl)
abbrev cX4_slackIn : ByteArray := prog_7_method_7_code
def yX4_slackIn : MethodName := ⟨RX4, "slackIn", "(II)I"⟩
def dkwX4_slackIn_0 : List UInt8 := [42, 28, 182, 0, 70, 153, 0, 17, 42, 180, 0, 37, 28, 46, 27, 100, 184, 0, 74, 167, 0, 4, 3, 172]
abbrev dktX4_slackIn_0 : List UInt8 := dkwX4_slackIn_0 ++ []
theorem dksX4_slackIn_0 : cX4_slackIn.data.toList.drop 0 = dktX4_slackIn_0 := by decide +kernel
theorem dX4_slackIn_0 : decode cX4_slackIn 0 = .ok (.aload_n 0, 1) := dk_42 (dk_at dksX4_slackIn_0 0 rfl rfl)
theorem dX4_slackIn_1 : decode cX4_slackIn 1 = .ok (.iload_n 2, 1) := dk_28 (dk_at dksX4_slackIn_0 1 rfl rfl)
theorem dX4_slackIn_2 : decode cX4_slackIn 2 = .ok (.invokevirtual 70, 3) := dk_182 0 70 (dk_at dksX4_slackIn_0 2 rfl rfl)
theorem dX4_slackIn_5 : decode cX4_slackIn 5 = .ok (.ifCond .eq 17, 3) := dk_153 0 17 (dk_at dksX4_slackIn_0 5 rfl rfl)
theorem dX4_slackIn_8 : decode cX4_slackIn 8 = .ok (.aload_n 0, 1) := dk_42 (dk_at dksX4_slackIn_0 8 rfl rfl)
theorem dX4_slackIn_9 : decode cX4_slackIn 9 = .ok (.getfield 37, 3) := dk_180 0 37 (dk_at dksX4_slackIn_0 9 rfl rfl)
theorem dX4_slackIn_12 : decode cX4_slackIn 12 = .ok (.iload_n 2, 1) := dk_28 (dk_at dksX4_slackIn_0 12 rfl rfl)
theorem dX4_slackIn_13 : decode cX4_slackIn 13 = .ok (.iaload, 1) := dk_46 (dk_at dksX4_slackIn_0 13 rfl rfl)
theorem dX4_slackIn_14 : decode cX4_slackIn 14 = .ok (.iload_n 1, 1) := dk_27 (dk_at dksX4_slackIn_0 14 rfl rfl)
theorem dX4_slackIn_15 : decode cX4_slackIn 15 = .ok (.isub, 1) := dk_100 (dk_at dksX4_slackIn_0 15 rfl rfl)
theorem dX4_slackIn_16 : decode cX4_slackIn 16 = .ok (.invokestatic 74, 3) := dk_184 0 74 (dk_at dksX4_slackIn_0 16 rfl rfl)
theorem dX4_slackIn_19 : decode cX4_slackIn 19 = .ok (.goto 4, 3) := dk_167 0 4 (dk_at dksX4_slackIn_0 19 rfl rfl)
theorem dX4_slackIn_22 : decode cX4_slackIn 22 = .ok (.iconst 0, 1) := dk_3 (dk_at dksX4_slackIn_0 22 rfl rfl)
theorem dX4_slackIn_23 : decode cX4_slackIn 23 = .ok (.ireturn, 1) := dk_172 (dk_at dksX4_slackIn_0 23 rfl rfl)
abbrev cX4_isSack : ByteArray := prog_7_method_6_code
def yX4_isSack : MethodName := ⟨RX4, "isSack", "(I)Z"⟩
def dkwX4_isSack_0 : List UInt8 := [27, 133, 9, 42, 180, 0, 46, 4, 100, 133, 184, 0, 66, 172]
abbrev dktX4_isSack_0 : List UInt8 := dkwX4_isSack_0 ++ []
theorem dksX4_isSack_0 : cX4_isSack.data.toList.drop 0 = dktX4_isSack_0 := by decide +kernel
theorem dX4_isSack_0 : decode cX4_isSack 0 = .ok (.iload_n 1, 1) := dk_27 (dk_at dksX4_isSack_0 0 rfl rfl)
theorem dX4_isSack_1 : decode cX4_isSack 1 = .ok (.i2l, 1) := dk_133 (dk_at dksX4_isSack_0 1 rfl rfl)
theorem dX4_isSack_2 : decode cX4_isSack 2 = .ok (.lconst 0, 1) := dk_9 (dk_at dksX4_isSack_0 2 rfl rfl)
theorem dX4_isSack_3 : decode cX4_isSack 3 = .ok (.aload_n 0, 1) := dk_42 (dk_at dksX4_isSack_0 3 rfl rfl)
theorem dX4_isSack_4 : decode cX4_isSack 4 = .ok (.getfield 46, 3) := dk_180 0 46 (dk_at dksX4_isSack_0 4 rfl rfl)
theorem dX4_isSack_7 : decode cX4_isSack 7 = .ok (.iconst 1, 1) := dk_4 (dk_at dksX4_isSack_0 7 rfl rfl)
theorem dX4_isSack_8 : decode cX4_isSack 8 = .ok (.isub, 1) := dk_100 (dk_at dksX4_isSack_0 8 rfl rfl)
theorem dX4_isSack_9 : decode cX4_isSack 9 = .ok (.i2l, 1) := dk_133 (dk_at dksX4_isSack_0 9 rfl rfl)
theorem dX4_isSack_10 : decode cX4_isSack 10 = .ok (.invokestatic 66, 3) := dk_184 0 66 (dk_at dksX4_isSack_0 10 rfl rfl)
theorem dX4_isSack_13 : decode cX4_isSack 13 = .ok (.ireturn, 1) := dk_172 (dk_at dksX4_isSack_0 13 rfl rfl)
abbrev cX4_riskOf : ByteArray := prog_7_method_10_code
def yX4_riskOf : MethodName := ⟨RX4, "riskOf", "(I)I"⟩
def dkwX4_riskOf_1 : List UInt8 := [46, 182, 0, 80, 42, 42, 180, 0, 28, 27, 46, 182, 0, 87, 182, 0, 90, 172]
abbrev dktX4_riskOf_1 : List UInt8 := dkwX4_riskOf_1 ++ []
def dkwX4_riskOf_0 : List UInt8 := [42, 180, 0, 21, 27, 50, 42, 180, 0, 25, 27, 46, 42, 42, 180, 0, 25, 27, 46, 42, 180, 0, 28, 27]
abbrev dktX4_riskOf_0 : List UInt8 := dkwX4_riskOf_0 ++ dktX4_riskOf_1
theorem dksX4_riskOf_0 : cX4_riskOf.data.toList.drop 0 = dktX4_riskOf_0 := by decide +kernel
theorem dksX4_riskOf_1 : cX4_riskOf.data.toList.drop 24 = dktX4_riskOf_1 := dk_seg dksX4_riskOf_0 24 rfl rfl
theorem dX4_riskOf_0 : decode cX4_riskOf 0 = .ok (.aload_n 0, 1) := dk_42 (dk_at dksX4_riskOf_0 0 rfl rfl)
theorem dX4_riskOf_1 : decode cX4_riskOf 1 = .ok (.getfield 21, 3) := dk_180 0 21 (dk_at dksX4_riskOf_0 1 rfl rfl)
theorem dX4_riskOf_4 : decode cX4_riskOf 4 = .ok (.iload_n 1, 1) := dk_27 (dk_at dksX4_riskOf_0 4 rfl rfl)
theorem dX4_riskOf_5 : decode cX4_riskOf 5 = .ok (.aaload, 1) := dk_50 (dk_at dksX4_riskOf_0 5 rfl rfl)
theorem dX4_riskOf_6 : decode cX4_riskOf 6 = .ok (.aload_n 0, 1) := dk_42 (dk_at dksX4_riskOf_0 6 rfl rfl)
theorem dX4_riskOf_7 : decode cX4_riskOf 7 = .ok (.getfield 25, 3) := dk_180 0 25 (dk_at dksX4_riskOf_0 7 rfl rfl)
theorem dX4_riskOf_10 : decode cX4_riskOf 10 = .ok (.iload_n 1, 1) := dk_27 (dk_at dksX4_riskOf_0 10 rfl rfl)
theorem dX4_riskOf_11 : decode cX4_riskOf 11 = .ok (.iaload, 1) := dk_46 (dk_at dksX4_riskOf_0 11 rfl rfl)
theorem dX4_riskOf_12 : decode cX4_riskOf 12 = .ok (.aload_n 0, 1) := dk_42 (dk_at dksX4_riskOf_0 12 rfl rfl)
theorem dX4_riskOf_13 : decode cX4_riskOf 13 = .ok (.aload_n 0, 1) := dk_42 (dk_at dksX4_riskOf_0 13 rfl rfl)
theorem dX4_riskOf_14 : decode cX4_riskOf 14 = .ok (.getfield 25, 3) := dk_180 0 25 (dk_at dksX4_riskOf_0 14 rfl rfl)
theorem dX4_riskOf_17 : decode cX4_riskOf 17 = .ok (.iload_n 1, 1) := dk_27 (dk_at dksX4_riskOf_0 17 rfl rfl)
theorem dX4_riskOf_18 : decode cX4_riskOf 18 = .ok (.iaload, 1) := dk_46 (dk_at dksX4_riskOf_0 18 rfl rfl)
theorem dX4_riskOf_19 : decode cX4_riskOf 19 = .ok (.aload_n 0, 1) := dk_42 (dk_at dksX4_riskOf_0 19 rfl rfl)
theorem dX4_riskOf_20 : decode cX4_riskOf 20 = .ok (.getfield 28, 3) := dk_180 0 28 (dk_at dksX4_riskOf_0 20 rfl rfl)
theorem dX4_riskOf_23 : decode cX4_riskOf 23 = .ok (.iload_n 1, 1) := dk_27 (dk_at dksX4_riskOf_0 23 rfl rfl)
theorem dX4_riskOf_24 : decode cX4_riskOf 24 = .ok (.iaload, 1) := dk_46 (dk_at dksX4_riskOf_1 0 rfl rfl)
theorem dX4_riskOf_25 : decode cX4_riskOf 25 = .ok (.invokevirtual 80, 3) := dk_182 0 80 (dk_at dksX4_riskOf_1 1 rfl rfl)
theorem dX4_riskOf_28 : decode cX4_riskOf 28 = .ok (.aload_n 0, 1) := dk_42 (dk_at dksX4_riskOf_1 4 rfl rfl)
theorem dX4_riskOf_29 : decode cX4_riskOf 29 = .ok (.aload_n 0, 1) := dk_42 (dk_at dksX4_riskOf_1 5 rfl rfl)
theorem dX4_riskOf_30 : decode cX4_riskOf 30 = .ok (.getfield 28, 3) := dk_180 0 28 (dk_at dksX4_riskOf_1 6 rfl rfl)
theorem dX4_riskOf_33 : decode cX4_riskOf 33 = .ok (.iload_n 1, 1) := dk_27 (dk_at dksX4_riskOf_1 9 rfl rfl)
theorem dX4_riskOf_34 : decode cX4_riskOf 34 = .ok (.iaload, 1) := dk_46 (dk_at dksX4_riskOf_1 10 rfl rfl)
theorem dX4_riskOf_35 : decode cX4_riskOf 35 = .ok (.invokevirtual 87, 3) := dk_182 0 87 (dk_at dksX4_riskOf_1 11 rfl rfl)
theorem dX4_riskOf_38 : decode cX4_riskOf 38 = .ok (.invokevirtual 90, 3) := dk_182 0 90 (dk_at dksX4_riskOf_1 14 rfl rfl)
theorem dX4_riskOf_41 : decode cX4_riskOf 41 = .ok (.ireturn, 1) := dk_172 (dk_at dksX4_riskOf_1 17 rfl rfl)
abbrev cX4_holesIn : ByteArray := prog_7_method_8_code
def yX4_holesIn : MethodName := ⟨RX4, "holesIn", "(I)I"⟩
def dkwX4_holesIn_0 : List UInt8 := [42, 27, 182, 0, 70, 153, 0, 12, 42, 180, 0, 40, 27, 46, 167, 0, 4, 3, 172]
abbrev dktX4_holesIn_0 : List UInt8 := dkwX4_holesIn_0 ++ []
theorem dksX4_holesIn_0 : cX4_holesIn.data.toList.drop 0 = dktX4_holesIn_0 := by decide +kernel
theorem dX4_holesIn_0 : decode cX4_holesIn 0 = .ok (.aload_n 0, 1) := dk_42 (dk_at dksX4_holesIn_0 0 rfl rfl)
theorem dX4_holesIn_1 : decode cX4_holesIn 1 = .ok (.iload_n 1, 1) := dk_27 (dk_at dksX4_holesIn_0 1 rfl rfl)
theorem dX4_holesIn_2 : decode cX4_holesIn 2 = .ok (.invokevirtual 70, 3) := dk_182 0 70 (dk_at dksX4_holesIn_0 2 rfl rfl)
theorem dX4_holesIn_5 : decode cX4_holesIn 5 = .ok (.ifCond .eq 12, 3) := dk_153 0 12 (dk_at dksX4_holesIn_0 5 rfl rfl)
theorem dX4_holesIn_8 : decode cX4_holesIn 8 = .ok (.aload_n 0, 1) := dk_42 (dk_at dksX4_holesIn_0 8 rfl rfl)
theorem dX4_holesIn_9 : decode cX4_holesIn 9 = .ok (.getfield 40, 3) := dk_180 0 40 (dk_at dksX4_holesIn_0 9 rfl rfl)
theorem dX4_holesIn_12 : decode cX4_holesIn 12 = .ok (.iload_n 1, 1) := dk_27 (dk_at dksX4_holesIn_0 12 rfl rfl)
theorem dX4_holesIn_13 : decode cX4_holesIn 13 = .ok (.iaload, 1) := dk_46 (dk_at dksX4_holesIn_0 13 rfl rfl)
theorem dX4_holesIn_14 : decode cX4_holesIn 14 = .ok (.goto 4, 3) := dk_167 0 4 (dk_at dksX4_holesIn_0 14 rfl rfl)
theorem dX4_holesIn_17 : decode cX4_holesIn 17 = .ok (.iconst 0, 1) := dk_3 (dk_at dksX4_holesIn_0 17 rfl rfl)
theorem dX4_holesIn_18 : decode cX4_holesIn 18 = .ok (.ireturn, 1) := dk_172 (dk_at dksX4_holesIn_0 18 rfl rfl)
abbrev cX4_addChild : ByteArray := prog_7_method_3_code
def yX4_addChild : MethodName := ⟨RX4, "addChild", "(III)V"⟩
def dkwX4_addChild_3 : List UInt8 := [180, 0, 43, 3, 79, 42, 89, 180, 0, 43, 4, 96, 181, 0, 43, 177]
abbrev dktX4_addChild_3 : List UInt8 := dkwX4_addChild_3 ++ []
def dkwX4_addChild_2 : List UInt8 := [42, 180, 0, 43, 167, 0, 4, 3, 79, 42, 180, 0, 31, 42, 180, 0, 43, 3, 79, 42, 180, 0, 34, 42]
abbrev dktX4_addChild_2 : List UInt8 := dkwX4_addChild_2 ++ dktX4_addChild_3
def dkwX4_addChild_1 : List UInt8 := [180, 0, 43, 29, 79, 42, 180, 0, 28, 42, 180, 0, 43, 42, 180, 0, 43, 42, 180, 0, 46, 162, 0, 10]
abbrev dktX4_addChild_1 : List UInt8 := dkwX4_addChild_1 ++ dktX4_addChild_2
def dkwX4_addChild_0 : List UInt8 := [42, 180, 0, 21, 42, 180, 0, 43, 27, 42, 180, 0, 43, 28, 184, 0, 62, 83, 42, 180, 0, 25, 42]
abbrev dktX4_addChild_0 : List UInt8 := dkwX4_addChild_0 ++ dktX4_addChild_1
theorem dksX4_addChild_0 : cX4_addChild.data.toList.drop 0 = dktX4_addChild_0 := by decide +kernel
theorem dksX4_addChild_1 : cX4_addChild.data.toList.drop 23 = dktX4_addChild_1 := dk_seg dksX4_addChild_0 23 rfl rfl
theorem dksX4_addChild_2 : cX4_addChild.data.toList.drop 47 = dktX4_addChild_2 := dk_seg dksX4_addChild_1 24 rfl rfl
theorem dksX4_addChild_3 : cX4_addChild.data.toList.drop 71 = dktX4_addChild_3 := dk_seg dksX4_addChild_2 24 rfl rfl
theorem dX4_addChild_0 : decode cX4_addChild 0 = .ok (.aload_n 0, 1) := dk_42 (dk_at dksX4_addChild_0 0 rfl rfl)
theorem dX4_addChild_1 : decode cX4_addChild 1 = .ok (.getfield 21, 3) := dk_180 0 21 (dk_at dksX4_addChild_0 1 rfl rfl)
theorem dX4_addChild_4 : decode cX4_addChild 4 = .ok (.aload_n 0, 1) := dk_42 (dk_at dksX4_addChild_0 4 rfl rfl)
theorem dX4_addChild_5 : decode cX4_addChild 5 = .ok (.getfield 43, 3) := dk_180 0 43 (dk_at dksX4_addChild_0 5 rfl rfl)
theorem dX4_addChild_8 : decode cX4_addChild 8 = .ok (.iload_n 1, 1) := dk_27 (dk_at dksX4_addChild_0 8 rfl rfl)
theorem dX4_addChild_9 : decode cX4_addChild 9 = .ok (.aload_n 0, 1) := dk_42 (dk_at dksX4_addChild_0 9 rfl rfl)
theorem dX4_addChild_10 : decode cX4_addChild 10 = .ok (.getfield 43, 3) := dk_180 0 43 (dk_at dksX4_addChild_0 10 rfl rfl)
theorem dX4_addChild_13 : decode cX4_addChild 13 = .ok (.iload_n 2, 1) := dk_28 (dk_at dksX4_addChild_0 13 rfl rfl)
theorem dX4_addChild_14 : decode cX4_addChild 14 = .ok (.invokestatic 62, 3) := dk_184 0 62 (dk_at dksX4_addChild_0 14 rfl rfl)
theorem dX4_addChild_17 : decode cX4_addChild 17 = .ok (.aastore, 1) := dk_83 (dk_at dksX4_addChild_0 17 rfl rfl)
theorem dX4_addChild_18 : decode cX4_addChild 18 = .ok (.aload_n 0, 1) := dk_42 (dk_at dksX4_addChild_0 18 rfl rfl)
theorem dX4_addChild_19 : decode cX4_addChild 19 = .ok (.getfield 25, 3) := dk_180 0 25 (dk_at dksX4_addChild_0 19 rfl rfl)
theorem dX4_addChild_22 : decode cX4_addChild 22 = .ok (.aload_n 0, 1) := dk_42 (dk_at dksX4_addChild_0 22 rfl rfl)
theorem dX4_addChild_23 : decode cX4_addChild 23 = .ok (.getfield 43, 3) := dk_180 0 43 (dk_at dksX4_addChild_1 0 rfl rfl)
theorem dX4_addChild_26 : decode cX4_addChild 26 = .ok (.iload_n 3, 1) := dk_29 (dk_at dksX4_addChild_1 3 rfl rfl)
theorem dX4_addChild_27 : decode cX4_addChild 27 = .ok (.iastore, 1) := dk_79 (dk_at dksX4_addChild_1 4 rfl rfl)
theorem dX4_addChild_28 : decode cX4_addChild 28 = .ok (.aload_n 0, 1) := dk_42 (dk_at dksX4_addChild_1 5 rfl rfl)
theorem dX4_addChild_29 : decode cX4_addChild 29 = .ok (.getfield 28, 3) := dk_180 0 28 (dk_at dksX4_addChild_1 6 rfl rfl)
theorem dX4_addChild_32 : decode cX4_addChild 32 = .ok (.aload_n 0, 1) := dk_42 (dk_at dksX4_addChild_1 9 rfl rfl)
theorem dX4_addChild_33 : decode cX4_addChild 33 = .ok (.getfield 43, 3) := dk_180 0 43 (dk_at dksX4_addChild_1 10 rfl rfl)
theorem dX4_addChild_36 : decode cX4_addChild 36 = .ok (.aload_n 0, 1) := dk_42 (dk_at dksX4_addChild_1 13 rfl rfl)
theorem dX4_addChild_37 : decode cX4_addChild 37 = .ok (.getfield 43, 3) := dk_180 0 43 (dk_at dksX4_addChild_1 14 rfl rfl)
theorem dX4_addChild_40 : decode cX4_addChild 40 = .ok (.aload_n 0, 1) := dk_42 (dk_at dksX4_addChild_1 17 rfl rfl)
theorem dX4_addChild_41 : decode cX4_addChild 41 = .ok (.getfield 46, 3) := dk_180 0 46 (dk_at dksX4_addChild_1 18 rfl rfl)
theorem dX4_addChild_44 : decode cX4_addChild 44 = .ok (.if_icmp .ge 10, 3) := dk_162 0 10 (dk_at dksX4_addChild_1 21 rfl rfl)
theorem dX4_addChild_47 : decode cX4_addChild 47 = .ok (.aload_n 0, 1) := dk_42 (dk_at dksX4_addChild_2 0 rfl rfl)
theorem dX4_addChild_48 : decode cX4_addChild 48 = .ok (.getfield 43, 3) := dk_180 0 43 (dk_at dksX4_addChild_2 1 rfl rfl)
theorem dX4_addChild_51 : decode cX4_addChild 51 = .ok (.goto 4, 3) := dk_167 0 4 (dk_at dksX4_addChild_2 4 rfl rfl)
theorem dX4_addChild_54 : decode cX4_addChild 54 = .ok (.iconst 0, 1) := dk_3 (dk_at dksX4_addChild_2 7 rfl rfl)
theorem dX4_addChild_55 : decode cX4_addChild 55 = .ok (.iastore, 1) := dk_79 (dk_at dksX4_addChild_2 8 rfl rfl)
theorem dX4_addChild_56 : decode cX4_addChild 56 = .ok (.aload_n 0, 1) := dk_42 (dk_at dksX4_addChild_2 9 rfl rfl)
theorem dX4_addChild_57 : decode cX4_addChild 57 = .ok (.getfield 31, 3) := dk_180 0 31 (dk_at dksX4_addChild_2 10 rfl rfl)
theorem dX4_addChild_60 : decode cX4_addChild 60 = .ok (.aload_n 0, 1) := dk_42 (dk_at dksX4_addChild_2 13 rfl rfl)
theorem dX4_addChild_61 : decode cX4_addChild 61 = .ok (.getfield 43, 3) := dk_180 0 43 (dk_at dksX4_addChild_2 14 rfl rfl)
theorem dX4_addChild_64 : decode cX4_addChild 64 = .ok (.iconst 0, 1) := dk_3 (dk_at dksX4_addChild_2 17 rfl rfl)
theorem dX4_addChild_65 : decode cX4_addChild 65 = .ok (.iastore, 1) := dk_79 (dk_at dksX4_addChild_2 18 rfl rfl)
theorem dX4_addChild_66 : decode cX4_addChild 66 = .ok (.aload_n 0, 1) := dk_42 (dk_at dksX4_addChild_2 19 rfl rfl)
theorem dX4_addChild_67 : decode cX4_addChild 67 = .ok (.getfield 34, 3) := dk_180 0 34 (dk_at dksX4_addChild_2 20 rfl rfl)
theorem dX4_addChild_70 : decode cX4_addChild 70 = .ok (.aload_n 0, 1) := dk_42 (dk_at dksX4_addChild_2 23 rfl rfl)
theorem dX4_addChild_71 : decode cX4_addChild 71 = .ok (.getfield 43, 3) := dk_180 0 43 (dk_at dksX4_addChild_3 0 rfl rfl)
theorem dX4_addChild_74 : decode cX4_addChild 74 = .ok (.iconst 0, 1) := dk_3 (dk_at dksX4_addChild_3 3 rfl rfl)
theorem dX4_addChild_75 : decode cX4_addChild 75 = .ok (.iastore, 1) := dk_79 (dk_at dksX4_addChild_3 4 rfl rfl)
theorem dX4_addChild_76 : decode cX4_addChild 76 = .ok (.aload_n 0, 1) := dk_42 (dk_at dksX4_addChild_3 5 rfl rfl)
theorem dX4_addChild_77 : decode cX4_addChild 77 = .ok (.dup, 1) := dk_89 (dk_at dksX4_addChild_3 6 rfl rfl)
theorem dX4_addChild_78 : decode cX4_addChild 78 = .ok (.getfield 43, 3) := dk_180 0 43 (dk_at dksX4_addChild_3 7 rfl rfl)
theorem dX4_addChild_81 : decode cX4_addChild 81 = .ok (.iconst 1, 1) := dk_4 (dk_at dksX4_addChild_3 10 rfl rfl)
theorem dX4_addChild_82 : decode cX4_addChild 82 = .ok (.iadd, 1) := dk_96 (dk_at dksX4_addChild_3 11 rfl rfl)
theorem dX4_addChild_83 : decode cX4_addChild 83 = .ok (.putfield 43, 3) := dk_181 0 43 (dk_at dksX4_addChild_3 12 rfl rfl)
theorem dX4_addChild_86 : decode cX4_addChild 86 = .ok (.return_, 1) := dk_177 (dk_at dksX4_addChild_3 15 rfl rfl)
abbrev cX4_addSack : ByteArray := prog_7_method_4_code
def yX4_addSack : MethodName := ⟨RX4, "addSack", "(II)V"⟩
def dkwX4_addSack_1 : List UInt8 := [180, 0, 46, 4, 96, 181, 0, 46, 177]
abbrev dktX4_addSack_1 : List UInt8 := dkwX4_addSack_1 ++ []
def dkwX4_addSack_0 : List UInt8 := [42, 180, 0, 37, 42, 180, 0, 46, 27, 79, 42, 180, 0, 40, 42, 180, 0, 46, 28, 79, 42, 89]
abbrev dktX4_addSack_0 : List UInt8 := dkwX4_addSack_0 ++ dktX4_addSack_1
theorem dksX4_addSack_0 : cX4_addSack.data.toList.drop 0 = dktX4_addSack_0 := by decide +kernel
theorem dksX4_addSack_1 : cX4_addSack.data.toList.drop 22 = dktX4_addSack_1 := dk_seg dksX4_addSack_0 22 rfl rfl
theorem dX4_addSack_0 : decode cX4_addSack 0 = .ok (.aload_n 0, 1) := dk_42 (dk_at dksX4_addSack_0 0 rfl rfl)
theorem dX4_addSack_1 : decode cX4_addSack 1 = .ok (.getfield 37, 3) := dk_180 0 37 (dk_at dksX4_addSack_0 1 rfl rfl)
theorem dX4_addSack_4 : decode cX4_addSack 4 = .ok (.aload_n 0, 1) := dk_42 (dk_at dksX4_addSack_0 4 rfl rfl)
theorem dX4_addSack_5 : decode cX4_addSack 5 = .ok (.getfield 46, 3) := dk_180 0 46 (dk_at dksX4_addSack_0 5 rfl rfl)
theorem dX4_addSack_8 : decode cX4_addSack 8 = .ok (.iload_n 1, 1) := dk_27 (dk_at dksX4_addSack_0 8 rfl rfl)
theorem dX4_addSack_9 : decode cX4_addSack 9 = .ok (.iastore, 1) := dk_79 (dk_at dksX4_addSack_0 9 rfl rfl)
theorem dX4_addSack_10 : decode cX4_addSack 10 = .ok (.aload_n 0, 1) := dk_42 (dk_at dksX4_addSack_0 10 rfl rfl)
theorem dX4_addSack_11 : decode cX4_addSack 11 = .ok (.getfield 40, 3) := dk_180 0 40 (dk_at dksX4_addSack_0 11 rfl rfl)
theorem dX4_addSack_14 : decode cX4_addSack 14 = .ok (.aload_n 0, 1) := dk_42 (dk_at dksX4_addSack_0 14 rfl rfl)
theorem dX4_addSack_15 : decode cX4_addSack 15 = .ok (.getfield 46, 3) := dk_180 0 46 (dk_at dksX4_addSack_0 15 rfl rfl)
theorem dX4_addSack_18 : decode cX4_addSack 18 = .ok (.iload_n 2, 1) := dk_28 (dk_at dksX4_addSack_0 18 rfl rfl)
theorem dX4_addSack_19 : decode cX4_addSack 19 = .ok (.iastore, 1) := dk_79 (dk_at dksX4_addSack_0 19 rfl rfl)
theorem dX4_addSack_20 : decode cX4_addSack 20 = .ok (.aload_n 0, 1) := dk_42 (dk_at dksX4_addSack_0 20 rfl rfl)
theorem dX4_addSack_21 : decode cX4_addSack 21 = .ok (.dup, 1) := dk_89 (dk_at dksX4_addSack_0 21 rfl rfl)
theorem dX4_addSack_22 : decode cX4_addSack 22 = .ok (.getfield 46, 3) := dk_180 0 46 (dk_at dksX4_addSack_1 0 rfl rfl)
theorem dX4_addSack_25 : decode cX4_addSack 25 = .ok (.iconst 1, 1) := dk_4 (dk_at dksX4_addSack_1 3 rfl rfl)
theorem dX4_addSack_26 : decode cX4_addSack 26 = .ok (.iadd, 1) := dk_96 (dk_at dksX4_addSack_1 4 rfl rfl)
theorem dX4_addSack_27 : decode cX4_addSack 27 = .ok (.putfield 46, 3) := dk_181 0 46 (dk_at dksX4_addSack_1 5 rfl rfl)
theorem dX4_addSack_30 : decode cX4_addSack 30 = .ok (.return_, 1) := dk_177 (dk_at dksX4_addSack_1 8 rfl rfl)
abbrev cX4_take : ByteArray := prog_7_method_2_code
def yX4_take : MethodName := ⟨RX4, "take", "(LInASackToTheRope$Field;)LInASackToTheRope$Field;"⟩
def dkwX4_take_7 : List UInt8 := [180, 0, 40, 3, 42, 180, 0, 46, 184, 0, 56, 42, 176]
abbrev dktX4_take_7 : List UInt8 := dkwX4_take_7 ++ []
def dkwX4_take_6 : List UInt8 := [180, 0, 37, 3, 42, 180, 0, 37, 3, 42, 180, 0, 46, 184, 0, 56, 43, 180, 0, 40, 3, 42]
abbrev dktX4_take_6 : List UInt8 := dkwX4_take_6 ++ dktX4_take_7
def dkwX4_take_5 : List UInt8 := [180, 0, 43, 184, 0, 56, 43, 180, 0, 34, 3, 42, 180, 0, 34, 3, 42, 180, 0, 43, 184, 0, 56, 43]
abbrev dktX4_take_5 : List UInt8 := dkwX4_take_5 ++ dktX4_take_6
def dkwX4_take_4 : List UInt8 := [3, 42, 180, 0, 28, 3, 42, 180, 0, 43, 184, 0, 56, 43, 180, 0, 31, 3, 42, 180, 0, 31, 3, 42]
abbrev dktX4_take_4 : List UInt8 := dkwX4_take_4 ++ dktX4_take_5
def dkwX4_take_3 : List UInt8 := [184, 0, 56, 43, 180, 0, 25, 3, 42, 180, 0, 25, 3, 42, 180, 0, 43, 184, 0, 56, 43, 180, 0, 28]
abbrev dktX4_take_3 : List UInt8 := dkwX4_take_3 ++ dktX4_take_4
def dkwX4_take_2 : List UInt8 := [180, 0, 15, 3, 7, 184, 0, 56, 43, 180, 0, 21, 3, 42, 180, 0, 21, 3, 42, 180, 0, 43]
abbrev dktX4_take_2 : List UInt8 := dkwX4_take_2 ++ dktX4_take_3
def dkwX4_take_1 : List UInt8 := [42, 43, 180, 0, 52, 181, 0, 52, 42, 43, 180, 0, 9, 181, 0, 9, 43, 180, 0, 15, 3, 42]
abbrev dktX4_take_1 : List UInt8 := dkwX4_take_1 ++ dktX4_take_2
def dkwX4_take_0 : List UInt8 := [42, 43, 180, 0, 43, 181, 0, 43, 42, 43, 180, 0, 46, 181, 0, 46, 42, 43, 180, 0, 49, 181, 0, 49]
abbrev dktX4_take_0 : List UInt8 := dkwX4_take_0 ++ dktX4_take_1
theorem dksX4_take_0 : cX4_take.data.toList.drop 0 = dktX4_take_0 := by decide +kernel
theorem dksX4_take_1 : cX4_take.data.toList.drop 24 = dktX4_take_1 := dk_seg dksX4_take_0 24 rfl rfl
theorem dksX4_take_2 : cX4_take.data.toList.drop 46 = dktX4_take_2 := dk_seg dksX4_take_1 22 rfl rfl
theorem dksX4_take_3 : cX4_take.data.toList.drop 68 = dktX4_take_3 := dk_seg dksX4_take_2 22 rfl rfl
theorem dksX4_take_4 : cX4_take.data.toList.drop 92 = dktX4_take_4 := dk_seg dksX4_take_3 24 rfl rfl
theorem dksX4_take_5 : cX4_take.data.toList.drop 116 = dktX4_take_5 := dk_seg dksX4_take_4 24 rfl rfl
theorem dksX4_take_6 : cX4_take.data.toList.drop 140 = dktX4_take_6 := dk_seg dksX4_take_5 24 rfl rfl
theorem dksX4_take_7 : cX4_take.data.toList.drop 162 = dktX4_take_7 := dk_seg dksX4_take_6 22 rfl rfl
theorem dX4_take_0 : decode cX4_take 0 = .ok (.aload_n 0, 1) := dk_42 (dk_at dksX4_take_0 0 rfl rfl)
theorem dX4_take_1 : decode cX4_take 1 = .ok (.aload_n 1, 1) := dk_43 (dk_at dksX4_take_0 1 rfl rfl)
theorem dX4_take_2 : decode cX4_take 2 = .ok (.getfield 43, 3) := dk_180 0 43 (dk_at dksX4_take_0 2 rfl rfl)
theorem dX4_take_5 : decode cX4_take 5 = .ok (.putfield 43, 3) := dk_181 0 43 (dk_at dksX4_take_0 5 rfl rfl)
theorem dX4_take_8 : decode cX4_take 8 = .ok (.aload_n 0, 1) := dk_42 (dk_at dksX4_take_0 8 rfl rfl)
theorem dX4_take_9 : decode cX4_take 9 = .ok (.aload_n 1, 1) := dk_43 (dk_at dksX4_take_0 9 rfl rfl)
theorem dX4_take_10 : decode cX4_take 10 = .ok (.getfield 46, 3) := dk_180 0 46 (dk_at dksX4_take_0 10 rfl rfl)
theorem dX4_take_13 : decode cX4_take 13 = .ok (.putfield 46, 3) := dk_181 0 46 (dk_at dksX4_take_0 13 rfl rfl)
theorem dX4_take_16 : decode cX4_take 16 = .ok (.aload_n 0, 1) := dk_42 (dk_at dksX4_take_0 16 rfl rfl)
theorem dX4_take_17 : decode cX4_take 17 = .ok (.aload_n 1, 1) := dk_43 (dk_at dksX4_take_0 17 rfl rfl)
theorem dX4_take_18 : decode cX4_take 18 = .ok (.getfield 49, 3) := dk_180 0 49 (dk_at dksX4_take_0 18 rfl rfl)
theorem dX4_take_21 : decode cX4_take 21 = .ok (.putfield 49, 3) := dk_181 0 49 (dk_at dksX4_take_0 21 rfl rfl)
theorem dX4_take_24 : decode cX4_take 24 = .ok (.aload_n 0, 1) := dk_42 (dk_at dksX4_take_1 0 rfl rfl)
theorem dX4_take_25 : decode cX4_take 25 = .ok (.aload_n 1, 1) := dk_43 (dk_at dksX4_take_1 1 rfl rfl)
theorem dX4_take_26 : decode cX4_take 26 = .ok (.getfield 52, 3) := dk_180 0 52 (dk_at dksX4_take_1 2 rfl rfl)
theorem dX4_take_29 : decode cX4_take 29 = .ok (.putfield 52, 3) := dk_181 0 52 (dk_at dksX4_take_1 5 rfl rfl)
theorem dX4_take_32 : decode cX4_take 32 = .ok (.aload_n 0, 1) := dk_42 (dk_at dksX4_take_1 8 rfl rfl)
theorem dX4_take_33 : decode cX4_take 33 = .ok (.aload_n 1, 1) := dk_43 (dk_at dksX4_take_1 9 rfl rfl)
theorem dX4_take_34 : decode cX4_take 34 = .ok (.getfield 9, 3) := dk_180 0 9 (dk_at dksX4_take_1 10 rfl rfl)
theorem dX4_take_37 : decode cX4_take 37 = .ok (.putfield 9, 3) := dk_181 0 9 (dk_at dksX4_take_1 13 rfl rfl)
theorem dX4_take_40 : decode cX4_take 40 = .ok (.aload_n 1, 1) := dk_43 (dk_at dksX4_take_1 16 rfl rfl)
theorem dX4_take_41 : decode cX4_take 41 = .ok (.getfield 15, 3) := dk_180 0 15 (dk_at dksX4_take_1 17 rfl rfl)
theorem dX4_take_44 : decode cX4_take 44 = .ok (.iconst 0, 1) := dk_3 (dk_at dksX4_take_1 20 rfl rfl)
theorem dX4_take_45 : decode cX4_take 45 = .ok (.aload_n 0, 1) := dk_42 (dk_at dksX4_take_1 21 rfl rfl)
theorem dX4_take_46 : decode cX4_take 46 = .ok (.getfield 15, 3) := dk_180 0 15 (dk_at dksX4_take_2 0 rfl rfl)
theorem dX4_take_49 : decode cX4_take 49 = .ok (.iconst 0, 1) := dk_3 (dk_at dksX4_take_2 3 rfl rfl)
theorem dX4_take_50 : decode cX4_take 50 = .ok (.iconst 4, 1) := dk_7 (dk_at dksX4_take_2 4 rfl rfl)
theorem dX4_take_51 : decode cX4_take 51 = .ok (.invokestatic 56, 3) := dk_184 0 56 (dk_at dksX4_take_2 5 rfl rfl)
theorem dX4_take_54 : decode cX4_take 54 = .ok (.aload_n 1, 1) := dk_43 (dk_at dksX4_take_2 8 rfl rfl)
theorem dX4_take_55 : decode cX4_take 55 = .ok (.getfield 21, 3) := dk_180 0 21 (dk_at dksX4_take_2 9 rfl rfl)
theorem dX4_take_58 : decode cX4_take 58 = .ok (.iconst 0, 1) := dk_3 (dk_at dksX4_take_2 12 rfl rfl)
theorem dX4_take_59 : decode cX4_take 59 = .ok (.aload_n 0, 1) := dk_42 (dk_at dksX4_take_2 13 rfl rfl)
theorem dX4_take_60 : decode cX4_take 60 = .ok (.getfield 21, 3) := dk_180 0 21 (dk_at dksX4_take_2 14 rfl rfl)
theorem dX4_take_63 : decode cX4_take 63 = .ok (.iconst 0, 1) := dk_3 (dk_at dksX4_take_2 17 rfl rfl)
theorem dX4_take_64 : decode cX4_take 64 = .ok (.aload_n 0, 1) := dk_42 (dk_at dksX4_take_2 18 rfl rfl)
theorem dX4_take_65 : decode cX4_take 65 = .ok (.getfield 43, 3) := dk_180 0 43 (dk_at dksX4_take_2 19 rfl rfl)
theorem dX4_take_68 : decode cX4_take 68 = .ok (.invokestatic 56, 3) := dk_184 0 56 (dk_at dksX4_take_3 0 rfl rfl)
theorem dX4_take_71 : decode cX4_take 71 = .ok (.aload_n 1, 1) := dk_43 (dk_at dksX4_take_3 3 rfl rfl)
theorem dX4_take_72 : decode cX4_take 72 = .ok (.getfield 25, 3) := dk_180 0 25 (dk_at dksX4_take_3 4 rfl rfl)
theorem dX4_take_75 : decode cX4_take 75 = .ok (.iconst 0, 1) := dk_3 (dk_at dksX4_take_3 7 rfl rfl)
theorem dX4_take_76 : decode cX4_take 76 = .ok (.aload_n 0, 1) := dk_42 (dk_at dksX4_take_3 8 rfl rfl)
theorem dX4_take_77 : decode cX4_take 77 = .ok (.getfield 25, 3) := dk_180 0 25 (dk_at dksX4_take_3 9 rfl rfl)
theorem dX4_take_80 : decode cX4_take 80 = .ok (.iconst 0, 1) := dk_3 (dk_at dksX4_take_3 12 rfl rfl)
theorem dX4_take_81 : decode cX4_take 81 = .ok (.aload_n 0, 1) := dk_42 (dk_at dksX4_take_3 13 rfl rfl)
theorem dX4_take_82 : decode cX4_take 82 = .ok (.getfield 43, 3) := dk_180 0 43 (dk_at dksX4_take_3 14 rfl rfl)
theorem dX4_take_85 : decode cX4_take 85 = .ok (.invokestatic 56, 3) := dk_184 0 56 (dk_at dksX4_take_3 17 rfl rfl)
theorem dX4_take_88 : decode cX4_take 88 = .ok (.aload_n 1, 1) := dk_43 (dk_at dksX4_take_3 20 rfl rfl)
theorem dX4_take_89 : decode cX4_take 89 = .ok (.getfield 28, 3) := dk_180 0 28 (dk_at dksX4_take_3 21 rfl rfl)
theorem dX4_take_92 : decode cX4_take 92 = .ok (.iconst 0, 1) := dk_3 (dk_at dksX4_take_4 0 rfl rfl)
theorem dX4_take_93 : decode cX4_take 93 = .ok (.aload_n 0, 1) := dk_42 (dk_at dksX4_take_4 1 rfl rfl)
theorem dX4_take_94 : decode cX4_take 94 = .ok (.getfield 28, 3) := dk_180 0 28 (dk_at dksX4_take_4 2 rfl rfl)
theorem dX4_take_97 : decode cX4_take 97 = .ok (.iconst 0, 1) := dk_3 (dk_at dksX4_take_4 5 rfl rfl)
theorem dX4_take_98 : decode cX4_take 98 = .ok (.aload_n 0, 1) := dk_42 (dk_at dksX4_take_4 6 rfl rfl)
theorem dX4_take_99 : decode cX4_take 99 = .ok (.getfield 43, 3) := dk_180 0 43 (dk_at dksX4_take_4 7 rfl rfl)
theorem dX4_take_102 : decode cX4_take 102 = .ok (.invokestatic 56, 3) := dk_184 0 56 (dk_at dksX4_take_4 10 rfl rfl)
theorem dX4_take_105 : decode cX4_take 105 = .ok (.aload_n 1, 1) := dk_43 (dk_at dksX4_take_4 13 rfl rfl)
theorem dX4_take_106 : decode cX4_take 106 = .ok (.getfield 31, 3) := dk_180 0 31 (dk_at dksX4_take_4 14 rfl rfl)
theorem dX4_take_109 : decode cX4_take 109 = .ok (.iconst 0, 1) := dk_3 (dk_at dksX4_take_4 17 rfl rfl)
theorem dX4_take_110 : decode cX4_take 110 = .ok (.aload_n 0, 1) := dk_42 (dk_at dksX4_take_4 18 rfl rfl)
theorem dX4_take_111 : decode cX4_take 111 = .ok (.getfield 31, 3) := dk_180 0 31 (dk_at dksX4_take_4 19 rfl rfl)
theorem dX4_take_114 : decode cX4_take 114 = .ok (.iconst 0, 1) := dk_3 (dk_at dksX4_take_4 22 rfl rfl)
theorem dX4_take_115 : decode cX4_take 115 = .ok (.aload_n 0, 1) := dk_42 (dk_at dksX4_take_4 23 rfl rfl)
theorem dX4_take_116 : decode cX4_take 116 = .ok (.getfield 43, 3) := dk_180 0 43 (dk_at dksX4_take_5 0 rfl rfl)
theorem dX4_take_119 : decode cX4_take 119 = .ok (.invokestatic 56, 3) := dk_184 0 56 (dk_at dksX4_take_5 3 rfl rfl)
theorem dX4_take_122 : decode cX4_take 122 = .ok (.aload_n 1, 1) := dk_43 (dk_at dksX4_take_5 6 rfl rfl)
theorem dX4_take_123 : decode cX4_take 123 = .ok (.getfield 34, 3) := dk_180 0 34 (dk_at dksX4_take_5 7 rfl rfl)
theorem dX4_take_126 : decode cX4_take 126 = .ok (.iconst 0, 1) := dk_3 (dk_at dksX4_take_5 10 rfl rfl)
theorem dX4_take_127 : decode cX4_take 127 = .ok (.aload_n 0, 1) := dk_42 (dk_at dksX4_take_5 11 rfl rfl)
theorem dX4_take_128 : decode cX4_take 128 = .ok (.getfield 34, 3) := dk_180 0 34 (dk_at dksX4_take_5 12 rfl rfl)
theorem dX4_take_131 : decode cX4_take 131 = .ok (.iconst 0, 1) := dk_3 (dk_at dksX4_take_5 15 rfl rfl)
theorem dX4_take_132 : decode cX4_take 132 = .ok (.aload_n 0, 1) := dk_42 (dk_at dksX4_take_5 16 rfl rfl)
theorem dX4_take_133 : decode cX4_take 133 = .ok (.getfield 43, 3) := dk_180 0 43 (dk_at dksX4_take_5 17 rfl rfl)
theorem dX4_take_136 : decode cX4_take 136 = .ok (.invokestatic 56, 3) := dk_184 0 56 (dk_at dksX4_take_5 20 rfl rfl)
theorem dX4_take_139 : decode cX4_take 139 = .ok (.aload_n 1, 1) := dk_43 (dk_at dksX4_take_5 23 rfl rfl)
theorem dX4_take_140 : decode cX4_take 140 = .ok (.getfield 37, 3) := dk_180 0 37 (dk_at dksX4_take_6 0 rfl rfl)
theorem dX4_take_143 : decode cX4_take 143 = .ok (.iconst 0, 1) := dk_3 (dk_at dksX4_take_6 3 rfl rfl)
theorem dX4_take_144 : decode cX4_take 144 = .ok (.aload_n 0, 1) := dk_42 (dk_at dksX4_take_6 4 rfl rfl)
theorem dX4_take_145 : decode cX4_take 145 = .ok (.getfield 37, 3) := dk_180 0 37 (dk_at dksX4_take_6 5 rfl rfl)
theorem dX4_take_148 : decode cX4_take 148 = .ok (.iconst 0, 1) := dk_3 (dk_at dksX4_take_6 8 rfl rfl)
theorem dX4_take_149 : decode cX4_take 149 = .ok (.aload_n 0, 1) := dk_42 (dk_at dksX4_take_6 9 rfl rfl)
theorem dX4_take_150 : decode cX4_take 150 = .ok (.getfield 46, 3) := dk_180 0 46 (dk_at dksX4_take_6 10 rfl rfl)
theorem dX4_take_153 : decode cX4_take 153 = .ok (.invokestatic 56, 3) := dk_184 0 56 (dk_at dksX4_take_6 13 rfl rfl)
theorem dX4_take_156 : decode cX4_take 156 = .ok (.aload_n 1, 1) := dk_43 (dk_at dksX4_take_6 16 rfl rfl)
theorem dX4_take_157 : decode cX4_take 157 = .ok (.getfield 40, 3) := dk_180 0 40 (dk_at dksX4_take_6 17 rfl rfl)
theorem dX4_take_160 : decode cX4_take 160 = .ok (.iconst 0, 1) := dk_3 (dk_at dksX4_take_6 20 rfl rfl)
theorem dX4_take_161 : decode cX4_take 161 = .ok (.aload_n 0, 1) := dk_42 (dk_at dksX4_take_6 21 rfl rfl)
theorem dX4_take_162 : decode cX4_take 162 = .ok (.getfield 40, 3) := dk_180 0 40 (dk_at dksX4_take_7 0 rfl rfl)
theorem dX4_take_165 : decode cX4_take 165 = .ok (.iconst 0, 1) := dk_3 (dk_at dksX4_take_7 3 rfl rfl)
theorem dX4_take_166 : decode cX4_take 166 = .ok (.aload_n 0, 1) := dk_42 (dk_at dksX4_take_7 4 rfl rfl)
theorem dX4_take_167 : decode cX4_take 167 = .ok (.getfield 46, 3) := dk_180 0 46 (dk_at dksX4_take_7 5 rfl rfl)
theorem dX4_take_170 : decode cX4_take 170 = .ok (.invokestatic 56, 3) := dk_184 0 56 (dk_at dksX4_take_7 8 rfl rfl)
theorem dX4_take_173 : decode cX4_take 173 = .ok (.aload_n 0, 1) := dk_42 (dk_at dksX4_take_7 11 rfl rfl)
theorem dX4_take_174 : decode cX4_take 174 = .ok (.areturn, 1) := dk_176 (dk_at dksX4_take_7 12 rfl rfl)
abbrev cX4_draw : ByteArray := prog_7_method_11_code
def yX4_draw : MethodName := ⟨RX4, "draw", "(I)I"⟩
def dkwX4_draw_1 : List UInt8 := [172]
abbrev dktX4_draw_1 : List UInt8 := dkwX4_draw_1 ++ []
def dkwX4_draw_0 : List UInt8 := [42, 42, 180, 0, 9, 18, 94, 104, 17, 48, 57, 96, 181, 0, 9, 42, 180, 0, 9, 16, 16, 124, 27, 112]
abbrev dktX4_draw_0 : List UInt8 := dkwX4_draw_0 ++ dktX4_draw_1
theorem dksX4_draw_0 : cX4_draw.data.toList.drop 0 = dktX4_draw_0 := by decide +kernel
theorem dksX4_draw_1 : cX4_draw.data.toList.drop 24 = dktX4_draw_1 := dk_seg dksX4_draw_0 24 rfl rfl
theorem dX4_draw_0 : decode cX4_draw 0 = .ok (.aload_n 0, 1) := dk_42 (dk_at dksX4_draw_0 0 rfl rfl)
theorem dX4_draw_1 : decode cX4_draw 1 = .ok (.aload_n 0, 1) := dk_42 (dk_at dksX4_draw_0 1 rfl rfl)
theorem dX4_draw_2 : decode cX4_draw 2 = .ok (.getfield 9, 3) := dk_180 0 9 (dk_at dksX4_draw_0 2 rfl rfl)
theorem dX4_draw_5 : decode cX4_draw 5 = .ok (.ldc 94, 2) := dk_18 94 (dk_at dksX4_draw_0 5 rfl rfl)
theorem dX4_draw_7 : decode cX4_draw 7 = .ok (.imul, 1) := dk_104 (dk_at dksX4_draw_0 7 rfl rfl)
theorem dX4_draw_8 : decode cX4_draw 8 = .ok (.sipush 12345, 3) := dk_17 48 57 (dk_at dksX4_draw_0 8 rfl rfl)
theorem dX4_draw_11 : decode cX4_draw 11 = .ok (.iadd, 1) := dk_96 (dk_at dksX4_draw_0 11 rfl rfl)
theorem dX4_draw_12 : decode cX4_draw 12 = .ok (.putfield 9, 3) := dk_181 0 9 (dk_at dksX4_draw_0 12 rfl rfl)
theorem dX4_draw_15 : decode cX4_draw 15 = .ok (.aload_n 0, 1) := dk_42 (dk_at dksX4_draw_0 15 rfl rfl)
theorem dX4_draw_16 : decode cX4_draw 16 = .ok (.getfield 9, 3) := dk_180 0 9 (dk_at dksX4_draw_0 16 rfl rfl)
theorem dX4_draw_19 : decode cX4_draw 19 = .ok (.bipush 16, 2) := dk_16 16 (dk_at dksX4_draw_0 19 rfl rfl)
theorem dX4_draw_21 : decode cX4_draw 21 = .ok (.iushr, 1) := dk_124 (dk_at dksX4_draw_0 21 rfl rfl)
theorem dX4_draw_22 : decode cX4_draw 22 = .ok (.iload_n 1, 1) := dk_27 (dk_at dksX4_draw_0 22 rfl rfl)
theorem dX4_draw_23 : decode cX4_draw 23 = .ok (.irem, 1) := dk_112 (dk_at dksX4_draw_0 23 rfl rfl)
theorem dX4_draw_24 : decode cX4_draw 24 = .ok (.ireturn, 1) := dk_172 (dk_at dksX4_draw_1 0 rfl rfl)
theorem q98 : (Jvm.Cond.initialized "InASackToTheRope$Field") ∈ lw_all := lw_g (lw_at lw_m1 5 rfl) rfl
theorem q244 : (Jvm.Cond.instantiable "InASackToTheRope$Field" (13 : Nat)) ∈ lw_all := lw_g (lw_at lw_m1 151 rfl) rfl
theorem q246 : (Jvm.Cond.instanceMethod ({ cls := "InASackToTheRope$Field", name := "<init>", desc := "()V" } : Jvm.MethodName)) ∈ lw_all := lw_g (lw_at lw_m1 153 rfl) rfl
theorem q247 : (Jvm.Cond.code ({ cls := "InASackToTheRope$Field", name := "<init>", desc := "()V" } : Jvm.MethodName) prog_7_method_1_code (1 : Nat) (Option.none : Option Jvm.ClassFile.FieldType)) ∈ lw_all := lw_g (lw_at lw_m1 154 rfl) rfl
theorem q248 : (Jvm.Cond.methodLink "InASackToTheRope$Field" (3 : Nat) ({ cls := "java/lang/Object", name := "<init>", desc := "()V" } : Jvm.MethodName)) ∈ lw_all := lw_g (lw_at lw_m1 155 rfl) rfl
theorem q249 : (Jvm.Cond.classLink "InASackToTheRope$Field" (19 : Nat) "InASackToTheRope$Hopper") ∈ lw_all := lw_g (lw_at lw_m1 156 rfl) rfl
theorem q251 : (Jvm.Cond.fieldLink "InASackToTheRope$Field" (43 : Nat) "InASackToTheRope$Field" "many" "I") ∈ lw_all := lw_g (lw_at lw_m1 158 rfl) rfl
theorem q254 : (Jvm.Cond.fieldLink "InASackToTheRope$Field" (46 : Nat) "InASackToTheRope$Field" "sacks" "I") ∈ lw_all := lw_g (lw_at lw_m1 161 rfl) rfl
theorem q258 : (Jvm.Cond.fieldLink "InASackToTheRope$Field" (49 : Nat) "InASackToTheRope$Field" "races" "I") ∈ lw_all := lw_g (lw_at lw_m1 165 rfl) rfl
theorem q260 : (Jvm.Cond.fieldLink "InASackToTheRope$Field" (52 : Nat) "InASackToTheRope$Field" "rolling" "Z") ∈ lw_all := lw_g (lw_at lw_m1 167 rfl) rfl
theorem q263 : (Jvm.Cond.fieldLink "InASackToTheRope$Field" (9 : Nat) "InASackToTheRope$Field" "seed" "I") ∈ lw_all := lw_g (lw_at lw_m1 170 rfl) rfl
theorem q265 : (Jvm.Cond.fieldLink "InASackToTheRope$Field" (15 : Nat) "InASackToTheRope$Field" "asked" "[I") ∈ lw_all := lw_g (lw_at lw_m1 172 rfl) rfl
theorem q269 : (Jvm.Cond.fieldLink "InASackToTheRope$Field" (21 : Nat) "InASackToTheRope$Field" "children" "[LInASackToTheRope$Hopper;") ∈ lw_all := lw_g (lw_at lw_m1 176 rfl) rfl
theorem q273 : (Jvm.Cond.fieldLink "InASackToTheRope$Field" (25 : Nat) "InASackToTheRope$Field" "legs" "[I") ∈ lw_all := lw_g (lw_at lw_m1 180 rfl) rfl
theorem q277 : (Jvm.Cond.fieldLink "InASackToTheRope$Field" (28 : Nat) "InASackToTheRope$Field" "worn" "[I") ∈ lw_all := lw_g (lw_at lw_m1 184 rfl) rfl
theorem q281 : (Jvm.Cond.fieldLink "InASackToTheRope$Field" (31 : Nat) "InASackToTheRope$Field" "ahead" "[I") ∈ lw_all := lw_g (lw_at lw_m1 188 rfl) rfl
theorem q285 : (Jvm.Cond.fieldLink "InASackToTheRope$Field" (34 : Nat) "InASackToTheRope$Field" "won" "[I") ∈ lw_all := lw_g (lw_at lw_m1 192 rfl) rfl
theorem q287 : (Jvm.Cond.fieldLink "InASackToTheRope$Field" (37 : Nat) "InASackToTheRope$Field" "length" "[I") ∈ lw_all := lw_g (lw_at lw_m1 194 rfl) rfl
theorem q289 : (Jvm.Cond.fieldLink "InASackToTheRope$Field" (40 : Nat) "InASackToTheRope$Field" "holes" "[I") ∈ lw_all := lw_g (lw_at lw_m1 196 rfl) rfl
theorem q291 : (Jvm.Cond.lays "InASackToTheRope$Field" "InASackToTheRope$Field" "many" "I") ∈ lw_all := lw_g (lw_at lw_m1 198 rfl) rfl
theorem q292 : (Jvm.Cond.soleField "InASackToTheRope$Field" "many") ∈ lw_all := lw_g (lw_at lw_m1 199 rfl) rfl
theorem q293 : (Jvm.Cond.lays "InASackToTheRope$Field" "InASackToTheRope$Field" "sacks" "I") ∈ lw_all := lw_g (lw_at lw_m1 200 rfl) rfl
theorem q294 : (Jvm.Cond.soleField "InASackToTheRope$Field" "sacks") ∈ lw_all := lw_g (lw_at lw_m1 201 rfl) rfl
theorem q295 : (Jvm.Cond.lays "InASackToTheRope$Field" "InASackToTheRope$Field" "races" "I") ∈ lw_all := lw_g (lw_at lw_m1 202 rfl) rfl
theorem q296 : (Jvm.Cond.soleField "InASackToTheRope$Field" "races") ∈ lw_all := lw_g (lw_at lw_m1 203 rfl) rfl
theorem q297 : (Jvm.Cond.lays "InASackToTheRope$Field" "InASackToTheRope$Field" "rolling" "Z") ∈ lw_all := lw_g (lw_at lw_m1 204 rfl) rfl
theorem q298 : (Jvm.Cond.soleField "InASackToTheRope$Field" "rolling") ∈ lw_all := lw_g (lw_at lw_m1 205 rfl) rfl
theorem q299 : (Jvm.Cond.lays "InASackToTheRope$Field" "InASackToTheRope$Field" "seed" "I") ∈ lw_all := lw_g (lw_at lw_m1 206 rfl) rfl
theorem q300 : (Jvm.Cond.soleField "InASackToTheRope$Field" "seed") ∈ lw_all := lw_g (lw_at lw_m1 207 rfl) rfl
theorem q301 : (Jvm.Cond.laysFinal "InASackToTheRope$Field" "InASackToTheRope$Field" "asked" "[I") ∈ lw_all := lw_g (lw_at lw_m1 208 rfl) rfl
theorem q302 : (Jvm.Cond.soleField "InASackToTheRope$Field" "asked") ∈ lw_all := lw_g (lw_at lw_m1 209 rfl) rfl
theorem q303 : (Jvm.Cond.laysFinal "InASackToTheRope$Field" "InASackToTheRope$Field" "children" "[LInASackToTheRope$Hopper;") ∈ lw_all := lw_g (lw_at lw_m1 210 rfl) rfl
theorem q304 : (Jvm.Cond.soleField "InASackToTheRope$Field" "children") ∈ lw_all := lw_g (lw_at lw_m1 211 rfl) rfl
theorem q305 : (Jvm.Cond.laysFinal "InASackToTheRope$Field" "InASackToTheRope$Field" "legs" "[I") ∈ lw_all := lw_g (lw_at lw_m1 212 rfl) rfl
theorem q306 : (Jvm.Cond.soleField "InASackToTheRope$Field" "legs") ∈ lw_all := lw_g (lw_at lw_m1 213 rfl) rfl
theorem q307 : (Jvm.Cond.laysFinal "InASackToTheRope$Field" "InASackToTheRope$Field" "worn" "[I") ∈ lw_all := lw_g (lw_at lw_m1 214 rfl) rfl
theorem q308 : (Jvm.Cond.soleField "InASackToTheRope$Field" "worn") ∈ lw_all := lw_g (lw_at lw_m1 215 rfl) rfl
theorem q309 : (Jvm.Cond.laysFinal "InASackToTheRope$Field" "InASackToTheRope$Field" "ahead" "[I") ∈ lw_all := lw_g (lw_at lw_m1 216 rfl) rfl
theorem q310 : (Jvm.Cond.soleField "InASackToTheRope$Field" "ahead") ∈ lw_all := lw_g (lw_at lw_m1 217 rfl) rfl
theorem q311 : (Jvm.Cond.laysFinal "InASackToTheRope$Field" "InASackToTheRope$Field" "won" "[I") ∈ lw_all := lw_g (lw_at lw_m1 218 rfl) rfl
theorem q312 : (Jvm.Cond.soleField "InASackToTheRope$Field" "won") ∈ lw_all := lw_g (lw_at lw_m1 219 rfl) rfl
theorem q313 : (Jvm.Cond.laysFinal "InASackToTheRope$Field" "InASackToTheRope$Field" "length" "[I") ∈ lw_all := lw_g (lw_at lw_m1 220 rfl) rfl
theorem q314 : (Jvm.Cond.soleField "InASackToTheRope$Field" "length") ∈ lw_all := lw_g (lw_at lw_m1 221 rfl) rfl
theorem q315 : (Jvm.Cond.laysFinal "InASackToTheRope$Field" "InASackToTheRope$Field" "holes" "[I") ∈ lw_all := lw_g (lw_at lw_m1 222 rfl) rfl
theorem q316 : (Jvm.Cond.soleField "InASackToTheRope$Field" "holes") ∈ lw_all := lw_g (lw_at lw_m1 223 rfl) rfl
theorem q317 : (Jvm.Cond.superclass "InASackToTheRope$Field" "java/lang/Object") ∈ lw_all := lw_g (lw_at lw_m1 224 rfl) rfl
theorem q654 : (Jvm.Cond.instanceMethod ({ cls := "InASackToTheRope$Field", name := "isChild", desc := "(I)Z" } : Jvm.MethodName)) ∈ lw_all := lw_g (lw_at lw_m3 81 rfl) rfl
theorem q655 : (Jvm.Cond.selects "InASackToTheRope$Field" ({ cls := "InASackToTheRope$Field", name := "isChild", desc := "(I)Z" } : Jvm.MethodName) ({ cls := "InASackToTheRope$Field", name := "isChild", desc := "(I)Z" } : Jvm.MethodName)) ∈ lw_all := lw_g (lw_at lw_m3 82 rfl) rfl
theorem q656 : (Jvm.Cond.code ({ cls := "InASackToTheRope$Field", name := "isChild", desc := "(I)Z" } : Jvm.MethodName) prog_7_method_5_code (2 : Nat) (Option.some Jvm.ClassFile.FieldType.boolean)) ∈ lw_all := lw_g (lw_at lw_m3 83 rfl) rfl
theorem q657 : (Jvm.Cond.methodLink "InASackToTheRope$Field" (66 : Nat) ({ cls := "InASackToTheRope", name := "in", desc := "(JJJ)Z" } : Jvm.MethodName)) ∈ lw_all := lw_g (lw_at lw_m3 84 rfl) rfl
theorem q690 : (Jvm.Cond.instanceMethod ({ cls := "InASackToTheRope$Field", name := "strideOf", desc := "(I)I" } : Jvm.MethodName)) ∈ lw_all := lw_g (lw_at lw_m3 117 rfl) rfl
theorem q691 : (Jvm.Cond.selects "InASackToTheRope$Field" ({ cls := "InASackToTheRope$Field", name := "strideOf", desc := "(I)I" } : Jvm.MethodName) ({ cls := "InASackToTheRope$Field", name := "strideOf", desc := "(I)I" } : Jvm.MethodName)) ∈ lw_all := lw_g (lw_at lw_m3 118 rfl) rfl
theorem q692 : (Jvm.Cond.code ({ cls := "InASackToTheRope$Field", name := "strideOf", desc := "(I)I" } : Jvm.MethodName) prog_7_method_9_code (2 : Nat) (Option.some Jvm.ClassFile.FieldType.int)) ∈ lw_all := lw_g (lw_at lw_m3 119 rfl) rfl
theorem q693 : (Jvm.Cond.methodLink "InASackToTheRope$Field" (80 : Nat) ({ cls := "InASackToTheRope$Field", name := "slackIn", desc := "(II)I" } : Jvm.MethodName)) ∈ lw_all := lw_g (lw_at lw_m3 120 rfl) rfl
theorem q694 : (Jvm.Cond.instanceMethod ({ cls := "InASackToTheRope$Field", name := "slackIn", desc := "(II)I" } : Jvm.MethodName)) ∈ lw_all := lw_g (lw_at lw_m3 121 rfl) rfl
theorem q695 : (Jvm.Cond.selects "InASackToTheRope$Field" ({ cls := "InASackToTheRope$Field", name := "slackIn", desc := "(II)I" } : Jvm.MethodName) ({ cls := "InASackToTheRope$Field", name := "slackIn", desc := "(II)I" } : Jvm.MethodName)) ∈ lw_all := lw_g (lw_at lw_m3 122 rfl) rfl
theorem q696 : (Jvm.Cond.code ({ cls := "InASackToTheRope$Field", name := "slackIn", desc := "(II)I" } : Jvm.MethodName) prog_7_method_7_code (3 : Nat) (Option.some Jvm.ClassFile.FieldType.int)) ∈ lw_all := lw_g (lw_at lw_m3 123 rfl) rfl
theorem q697 : (Jvm.Cond.methodLink "InASackToTheRope$Field" (70 : Nat) ({ cls := "InASackToTheRope$Field", name := "isSack", desc := "(I)Z" } : Jvm.MethodName)) ∈ lw_all := lw_g (lw_at lw_m3 124 rfl) rfl
theorem q698 : (Jvm.Cond.instanceMethod ({ cls := "InASackToTheRope$Field", name := "isSack", desc := "(I)Z" } : Jvm.MethodName)) ∈ lw_all := lw_g (lw_at lw_m3 125 rfl) rfl
theorem q699 : (Jvm.Cond.selects "InASackToTheRope$Field" ({ cls := "InASackToTheRope$Field", name := "isSack", desc := "(I)Z" } : Jvm.MethodName) ({ cls := "InASackToTheRope$Field", name := "isSack", desc := "(I)Z" } : Jvm.MethodName)) ∈ lw_all := lw_g (lw_at lw_m3 126 rfl) rfl
theorem q700 : (Jvm.Cond.code ({ cls := "InASackToTheRope$Field", name := "isSack", desc := "(I)Z" } : Jvm.MethodName) prog_7_method_6_code (2 : Nat) (Option.some Jvm.ClassFile.FieldType.boolean)) ∈ lw_all := lw_g (lw_at lw_m3 127 rfl) rfl
theorem q701 : (Jvm.Cond.methodLink "InASackToTheRope$Field" (74 : Nat) ({ cls := "java/lang/Math", name := "abs", desc := "(I)I" } : Jvm.MethodName)) ∈ lw_all := lw_g (lw_at lw_m3 128 rfl) rfl
theorem q704 : (Jvm.Cond.methodLink "InASackToTheRope$Field" (84 : Nat) ({ cls := "InASackToTheRope$Hopper", name := "stride", desc := "(II)I" } : Jvm.MethodName)) ∈ lw_all := lw_g (lw_at lw_m3 131 rfl) rfl
theorem q746 : (Jvm.Cond.instanceMethod ({ cls := "InASackToTheRope$Field", name := "riskOf", desc := "(I)I" } : Jvm.MethodName)) ∈ lw_all := lw_g (lw_at lw_m3 173 rfl) rfl
theorem q747 : (Jvm.Cond.selects "InASackToTheRope$Field" ({ cls := "InASackToTheRope$Field", name := "riskOf", desc := "(I)I" } : Jvm.MethodName) ({ cls := "InASackToTheRope$Field", name := "riskOf", desc := "(I)I" } : Jvm.MethodName)) ∈ lw_all := lw_g (lw_at lw_m3 174 rfl) rfl
theorem q748 : (Jvm.Cond.code ({ cls := "InASackToTheRope$Field", name := "riskOf", desc := "(I)I" } : Jvm.MethodName) prog_7_method_10_code (2 : Nat) (Option.some Jvm.ClassFile.FieldType.int)) ∈ lw_all := lw_g (lw_at lw_m3 175 rfl) rfl
theorem q749 : (Jvm.Cond.methodLink "InASackToTheRope$Field" (87 : Nat) ({ cls := "InASackToTheRope$Field", name := "holesIn", desc := "(I)I" } : Jvm.MethodName)) ∈ lw_all := lw_g (lw_at lw_m3 176 rfl) rfl
theorem q750 : (Jvm.Cond.instanceMethod ({ cls := "InASackToTheRope$Field", name := "holesIn", desc := "(I)I" } : Jvm.MethodName)) ∈ lw_all := lw_g (lw_at lw_m3 177 rfl) rfl
theorem q751 : (Jvm.Cond.selects "InASackToTheRope$Field" ({ cls := "InASackToTheRope$Field", name := "holesIn", desc := "(I)I" } : Jvm.MethodName) ({ cls := "InASackToTheRope$Field", name := "holesIn", desc := "(I)I" } : Jvm.MethodName)) ∈ lw_all := lw_g (lw_at lw_m3 178 rfl) rfl
theorem q752 : (Jvm.Cond.code ({ cls := "InASackToTheRope$Field", name := "holesIn", desc := "(I)I" } : Jvm.MethodName) prog_7_method_8_code (2 : Nat) (Option.some Jvm.ClassFile.FieldType.int)) ∈ lw_all := lw_g (lw_at lw_m3 179 rfl) rfl
theorem q753 : (Jvm.Cond.methodLink "InASackToTheRope$Field" (90 : Nat) ({ cls := "InASackToTheRope$Hopper", name := "risk", desc := "(III)I" } : Jvm.MethodName)) ∈ lw_all := lw_g (lw_at lw_m3 180 rfl) rfl
theorem q777 : (Jvm.Cond.instanceMethod ({ cls := "InASackToTheRope$Field", name := "addChild", desc := "(III)V" } : Jvm.MethodName)) ∈ lw_all := lw_g (lw_at lw_m3 204 rfl) rfl
theorem q778 : (Jvm.Cond.selects "InASackToTheRope$Field" ({ cls := "InASackToTheRope$Field", name := "addChild", desc := "(III)V" } : Jvm.MethodName) ({ cls := "InASackToTheRope$Field", name := "addChild", desc := "(III)V" } : Jvm.MethodName)) ∈ lw_all := lw_g (lw_at lw_m3 205 rfl) rfl
theorem q779 : (Jvm.Cond.code ({ cls := "InASackToTheRope$Field", name := "addChild", desc := "(III)V" } : Jvm.MethodName) prog_7_method_3_code (4 : Nat) (Option.none : Option Jvm.ClassFile.FieldType)) ∈ lw_all := lw_g (lw_at lw_m3 206 rfl) rfl
theorem q780 : (Jvm.Cond.methodLink "InASackToTheRope$Field" (62 : Nat) ({ cls := "InASackToTheRope", name := "hopperOfKind", desc := "(III)LInASackToTheRope$Hopper;" } : Jvm.MethodName)) ∈ lw_all := lw_g (lw_at lw_m3 207 rfl) rfl
theorem q867 : (Jvm.Cond.instanceMethod ({ cls := "InASackToTheRope$Field", name := "addSack", desc := "(II)V" } : Jvm.MethodName)) ∈ lw_all := lw_g (lw_at lw_m4 54 rfl) rfl
theorem q868 : (Jvm.Cond.selects "InASackToTheRope$Field" ({ cls := "InASackToTheRope$Field", name := "addSack", desc := "(II)V" } : Jvm.MethodName) ({ cls := "InASackToTheRope$Field", name := "addSack", desc := "(II)V" } : Jvm.MethodName)) ∈ lw_all := lw_g (lw_at lw_m4 55 rfl) rfl
theorem q869 : (Jvm.Cond.code ({ cls := "InASackToTheRope$Field", name := "addSack", desc := "(II)V" } : Jvm.MethodName) prog_7_method_4_code (3 : Nat) (Option.none : Option Jvm.ClassFile.FieldType)) ∈ lw_all := lw_g (lw_at lw_m4 56 rfl) rfl
theorem q950 : (Jvm.Cond.instanceMethod ({ cls := "InASackToTheRope$Field", name := "take", desc := "(LInASackToTheRope$Field;)LInASackToTheRope$Field;" } : Jvm.MethodName)) ∈ lw_all := lw_g (lw_at lw_m4 137 rfl) rfl
theorem q951 : (Jvm.Cond.selects "InASackToTheRope$Field" ({ cls := "InASackToTheRope$Field", name := "take", desc := "(LInASackToTheRope$Field;)LInASackToTheRope$Field;" } : Jvm.MethodName) ({ cls := "InASackToTheRope$Field", name := "take", desc := "(LInASackToTheRope$Field;)LInASackToTheRope$Field;" } : Jvm.MethodName)) ∈ lw_all := lw_g (lw_at lw_m4 138 rfl) rfl
theorem q952 : (Jvm.Cond.code ({ cls := "InASackToTheRope$Field", name := "take", desc := "(LInASackToTheRope$Field;)LInASackToTheRope$Field;" } : Jvm.MethodName) prog_7_method_2_code (2 : Nat) (Option.some (Jvm.ClassFile.FieldType.object "InASackToTheRope$Field"))) ∈ lw_all := lw_g (lw_at lw_m4 139 rfl) rfl
theorem q953 : (Jvm.Cond.methodLink "InASackToTheRope$Field" (56 : Nat) ({ cls := "java/lang/System", name := "arraycopy", desc := "(Ljava/lang/Object;ILjava/lang/Object;II)V" } : Jvm.MethodName)) ∈ lw_all := lw_g (lw_at lw_m4 140 rfl) rfl
theorem q1355 : (Jvm.Cond.instanceMethod ({ cls := "InASackToTheRope$Field", name := "draw", desc := "(I)I" } : Jvm.MethodName)) ∈ lw_all := lw_g (lw_at lw_m6 62 rfl) rfl
theorem q1356 : (Jvm.Cond.selects "InASackToTheRope$Field" ({ cls := "InASackToTheRope$Field", name := "draw", desc := "(I)I" } : Jvm.MethodName) ({ cls := "InASackToTheRope$Field", name := "draw", desc := "(I)I" } : Jvm.MethodName)) ∈ lw_all := lw_g (lw_at lw_m6 63 rfl) rfl
theorem q1357 : (Jvm.Cond.code ({ cls := "InASackToTheRope$Field", name := "draw", desc := "(I)I" } : Jvm.MethodName) prog_7_method_11_code (2 : Nat) (Option.some Jvm.ClassFile.FieldType.int)) ∈ lw_all := lw_g (lw_at lw_m6 64 rfl) rfl
theorem q1358 : (Jvm.Cond.constant "InASackToTheRope$Field" (94 : Nat) (1103515245 : Int32)) ∈ lw_all := lw_g (lw_at lw_m6 65 rfl) rfl
theorem in_X4 : ∀ w ∈ wsX40, w ∈ lw_all := lw_in wsX40 [291, 293, 295, 297, 299, 301, 303, 305, 307, 309, 311, 313, 315] (by decide +kernel) (by decide +kernel)
/-! InASackToTheRope$Shelf -/
set_option maxRecDepth 100000
def RX5 : String := "InASackToTheRope$Shelf"
def TX5 : u_T := fun k => match k with
  | _ => ("InASackToTheRope$Shelf", "held", "Ljava/lang/Object;", false)
def tyX5 : Nat → FieldType := fun k => match k with
  | _ => .object "java/lang/Object"
abbrev wsX50 : List Cond := u_ws RX5 TX5 1
theorem nmX5 : ∀ a, a < 1 → ∀ b, b < 1 → a ≠ b → (TX5 a).2.1 ≠ (TX5 b).2.1 := by decide +kernel
theorem tyX5_ok : ∀ k, k < 1 → parseFieldDescriptor (TX5 k).2.2.1 = some (tyX5 k) := by decide +kernel
abbrev cX5_init : ByteArray := prog_18_method_1_code
def yX5_init : MethodName := ⟨RX5, "<init>", "()V"⟩
theorem dX5_init_0 : decode cX5_init 0 = .ok (.aload_n 0, 1) := by decide +kernel
theorem dX5_init_1 : decode cX5_init 1 = .ok (.invokespecial 3, 3) := by decide +kernel
theorem dX5_init_4 : decode cX5_init 4 = .ok (.return_, 1) := by decide +kernel
abbrev cX5_row : ByteArray := prog_18_method_2_code
def yX5_row : MethodName := ⟨RX5, "row", "()LInASackToTheRope$Row;"⟩
def dkwX5_row_1 : List UInt8 := [76, 187, 0, 23, 89, 16, 254, 183, 0, 25, 191]
abbrev dktX5_row_1 : List UInt8 := dkwX5_row_1 ++ []
def dkwX5_row_0 : List UInt8 := [42, 180, 0, 9, 192, 0, 15, 76, 43, 198, 0, 7, 4, 167, 0, 4, 3, 16, 253, 184, 0, 17, 43, 176]
abbrev dktX5_row_0 : List UInt8 := dkwX5_row_0 ++ dktX5_row_1
theorem dksX5_row_0 : cX5_row.data.toList.drop 0 = dktX5_row_0 := by decide +kernel
theorem dksX5_row_1 : cX5_row.data.toList.drop 24 = dktX5_row_1 := dk_seg dksX5_row_0 24 rfl rfl
theorem dX5_row_0 : decode cX5_row 0 = .ok (.aload_n 0, 1) := dk_42 (dk_at dksX5_row_0 0 rfl rfl)
theorem dX5_row_1 : decode cX5_row 1 = .ok (.getfield 9, 3) := dk_180 0 9 (dk_at dksX5_row_0 1 rfl rfl)
theorem dX5_row_4 : decode cX5_row 4 = .ok (.checkcast 15, 3) := dk_192 0 15 (dk_at dksX5_row_0 4 rfl rfl)
theorem dX5_row_7 : decode cX5_row 7 = .ok (.astore_n 1, 1) := dk_76 (dk_at dksX5_row_0 7 rfl rfl)
theorem dX5_row_8 : decode cX5_row 8 = .ok (.aload_n 1, 1) := dk_43 (dk_at dksX5_row_0 8 rfl rfl)
theorem dX5_row_9 : decode cX5_row 9 = .ok (.ifnull 7, 3) := dk_198 0 7 (dk_at dksX5_row_0 9 rfl rfl)
theorem dX5_row_12 : decode cX5_row 12 = .ok (.iconst 1, 1) := dk_4 (dk_at dksX5_row_0 12 rfl rfl)
theorem dX5_row_13 : decode cX5_row 13 = .ok (.goto 4, 3) := dk_167 0 4 (dk_at dksX5_row_0 13 rfl rfl)
theorem dX5_row_16 : decode cX5_row 16 = .ok (.iconst 0, 1) := dk_3 (dk_at dksX5_row_0 16 rfl rfl)
theorem dX5_row_17 : decode cX5_row 17 = .ok (.bipush (-3), 2) := dk_16 253 (dk_at dksX5_row_0 17 rfl rfl)
theorem dX5_row_19 : decode cX5_row 19 = .ok (.invokestatic 17, 3) := dk_184 0 17 (dk_at dksX5_row_0 19 rfl rfl)
theorem dX5_row_22 : decode cX5_row 22 = .ok (.aload_n 1, 1) := dk_43 (dk_at dksX5_row_0 22 rfl rfl)
theorem dX5_row_23 : decode cX5_row 23 = .ok (.areturn, 1) := dk_176 (dk_at dksX5_row_0 23 rfl rfl)
theorem dX5_row_24 : decode cX5_row 24 = .ok (.astore_n 1, 1) := dk_76 (dk_at dksX5_row_1 0 rfl rfl)
theorem dX5_row_25 : decode cX5_row 25 = .ok (.new 23, 3) := dk_187 0 23 (dk_at dksX5_row_1 1 rfl rfl)
theorem dX5_row_28 : decode cX5_row 28 = .ok (.dup, 1) := dk_89 (dk_at dksX5_row_1 4 rfl rfl)
theorem dX5_row_29 : decode cX5_row 29 = .ok (.bipush (-2), 2) := dk_16 254 (dk_at dksX5_row_1 5 rfl rfl)
theorem dX5_row_31 : decode cX5_row 31 = .ok (.invokespecial 25, 3) := dk_183 0 25 (dk_at dksX5_row_1 7 rfl rfl)
theorem dX5_row_34 : decode cX5_row 34 = .ok (.athrow, 1) := dk_191 (dk_at dksX5_row_1 10 rfl rfl)
abbrev cX5_holdsHopper : ByteArray := prog_18_method_3_code
def yX5_holdsHopper : MethodName := ⟨RX5, "holdsHopper", "()Z"⟩
def dkwX5_holdsHopper_0 : List UInt8 := [42, 180, 0, 9, 193, 0, 28, 172]
abbrev dktX5_holdsHopper_0 : List UInt8 := dkwX5_holdsHopper_0 ++ []
theorem dksX5_holdsHopper_0 : cX5_holdsHopper.data.toList.drop 0 = dktX5_holdsHopper_0 := by decide +kernel
theorem dX5_holdsHopper_0 : decode cX5_holdsHopper 0 = .ok (.aload_n 0, 1) := dk_42 (dk_at dksX5_holdsHopper_0 0 rfl rfl)
theorem dX5_holdsHopper_1 : decode cX5_holdsHopper 1 = .ok (.getfield 9, 3) := dk_180 0 9 (dk_at dksX5_holdsHopper_0 1 rfl rfl)
theorem dX5_holdsHopper_4 : decode cX5_holdsHopper 4 = .ok (.instanceof 28, 3) := dk_193 0 28 (dk_at dksX5_holdsHopper_0 4 rfl rfl)
theorem dX5_holdsHopper_7 : decode cX5_holdsHopper 7 = .ok (.ireturn, 1) := dk_172 (dk_at dksX5_holdsHopper_0 7 rfl rfl)
abbrev cX5_says : ByteArray := prog_18_method_4_code
def yX5_says : MethodName := ⟨RX5, "says", "(ILInASackToTheRope$Field;)I"⟩
def dkwX5_says_11 : List UInt8 := [167, 0, 4, 3, 16, 253, 184, 0, 17, 29, 172, 78, 187, 0, 23, 89, 16, 254, 183, 0, 25, 191]
abbrev dktX5_says_11 : List UInt8 := dkwX5_says_11 ++ []
def dkwX5_says_10 : List UInt8 := [180, 0, 63, 42, 180, 0, 9, 192, 0, 28, 180, 0, 67, 46, 62, 42, 180, 0, 9, 198, 0, 7, 4]
abbrev dktX5_says_10 : List UInt8 := dkwX5_says_10 ++ dktX5_says_11
def dkwX5_says_9 : List UInt8 := [180, 0, 62, 182, 0, 54, 62, 167, 0, 30, 42, 180, 0, 9, 199, 0, 7, 2, 167, 0, 18, 44]
abbrev dktX5_says_9 : List UInt8 := dkwX5_says_9 ++ dktX5_says_10
def dkwX5_says_8 : List UInt8 := [167, 0, 59, 42, 180, 0, 9, 199, 0, 7, 2, 167, 0, 17, 44, 42, 180, 0, 9, 192, 0, 60]
abbrev dktX5_says_8 : List UInt8 := dkwX5_says_8 ++ dktX5_says_9
def dkwX5_says_7 : List UInt8 := [199, 0, 7, 2, 167, 0, 17, 44, 42, 180, 0, 9, 192, 0, 57, 180, 0, 59, 182, 0, 42, 62]
abbrev dktX5_says_7 : List UInt8 := dkwX5_says_7 ++ dktX5_says_8
def dkwX5_says_6 : List UInt8 := [44, 42, 180, 0, 9, 192, 0, 51, 180, 0, 53, 182, 0, 54, 62, 167, 0, 88, 42, 180, 0, 9]
abbrev dktX5_says_6 : List UInt8 := dkwX5_says_6 ++ dktX5_says_7
def dkwX5_says_5 : List UInt8 := [180, 0, 9, 192, 0, 48, 182, 0, 50, 62, 167, 0, 117, 42, 180, 0, 9, 199, 0, 7, 2, 167, 0, 17]
abbrev dktX5_says_5 : List UInt8 := dkwX5_says_5 ++ dktX5_says_6
def dkwX5_says_4 : List UInt8 := [180, 0, 38, 182, 0, 42, 62, 167, 0, 142, 42, 180, 0, 9, 199, 0, 7, 2, 167, 0, 13, 42]
abbrev dktX5_says_4 : List UInt8 := dkwX5_says_4 ++ dktX5_says_5
def dkwX5_says_3 : List UInt8 := [167, 0, 171, 42, 180, 0, 9, 199, 0, 7, 2, 167, 0, 17, 44, 42, 180, 0, 9, 192, 0, 36]
abbrev dktX5_says_3 : List UInt8 := dkwX5_says_3 ++ dktX5_says_4
def dkwX5_says_2 : List UInt8 := [42, 180, 0, 9, 199, 0, 7, 2, 167, 0, 13, 42, 180, 0, 9, 192, 0, 30, 182, 0, 32, 62]
abbrev dktX5_says_2 : List UInt8 := dkwX5_says_2 ++ dktX5_says_3
def dkwX5_says_1 : List UInt8 := [170, 0, 0, 0, 0, 0, 205, 0, 0, 0, 1, 0, 0, 0, 6, 0, 0, 0, 39, 0, 0, 0, 64, 0, 0, 0, 93, 0, 0, 0, 118, 0, 0, 0, 147, 0, 0, 0, 176]
abbrev dktX5_says_1 : List UInt8 := dkwX5_says_1 ++ dktX5_says_2
def dkwX5_says_0 : List UInt8 := [27]
abbrev dktX5_says_0 : List UInt8 := dkwX5_says_0 ++ dktX5_says_1
theorem dksX5_says_0 : cX5_says.data.toList.drop 0 = dktX5_says_0 := by decide +kernel
theorem dksX5_says_1 : cX5_says.data.toList.drop 1 = dktX5_says_1 := dk_seg dksX5_says_0 1 rfl rfl
theorem dksX5_says_2 : cX5_says.data.toList.drop 40 = dktX5_says_2 := dk_seg dksX5_says_1 39 rfl rfl
theorem dksX5_says_3 : cX5_says.data.toList.drop 62 = dktX5_says_3 := dk_seg dksX5_says_2 22 rfl rfl
theorem dksX5_says_4 : cX5_says.data.toList.drop 84 = dktX5_says_4 := dk_seg dksX5_says_3 22 rfl rfl
theorem dksX5_says_5 : cX5_says.data.toList.drop 106 = dktX5_says_5 := dk_seg dksX5_says_4 22 rfl rfl
theorem dksX5_says_6 : cX5_says.data.toList.drop 130 = dktX5_says_6 := dk_seg dksX5_says_5 24 rfl rfl
theorem dksX5_says_7 : cX5_says.data.toList.drop 152 = dktX5_says_7 := dk_seg dksX5_says_6 22 rfl rfl
theorem dksX5_says_8 : cX5_says.data.toList.drop 174 = dktX5_says_8 := dk_seg dksX5_says_7 22 rfl rfl
theorem dksX5_says_9 : cX5_says.data.toList.drop 196 = dktX5_says_9 := dk_seg dksX5_says_8 22 rfl rfl
theorem dksX5_says_10 : cX5_says.data.toList.drop 218 = dktX5_says_10 := dk_seg dksX5_says_9 22 rfl rfl
theorem dksX5_says_11 : cX5_says.data.toList.drop 241 = dktX5_says_11 := dk_seg dksX5_says_10 23 rfl rfl
theorem dX5_says_0 : decode cX5_says 0 = .ok (.iload_n 1, 1) := dk_27 (dk_at dksX5_says_0 0 rfl rfl)
theorem dX5_says_1 : decode cX5_says 1 = .ok (.tableswitch 205 1 6 #[39, 64, 93, 118, 147, 176], 39) := by decide +kernel
theorem dX5_says_40 : decode cX5_says 40 = .ok (.aload_n 0, 1) := dk_42 (dk_at dksX5_says_2 0 rfl rfl)
theorem dX5_says_41 : decode cX5_says 41 = .ok (.getfield 9, 3) := dk_180 0 9 (dk_at dksX5_says_2 1 rfl rfl)
theorem dX5_says_44 : decode cX5_says 44 = .ok (.ifnonnull 7, 3) := dk_199 0 7 (dk_at dksX5_says_2 4 rfl rfl)
theorem dX5_says_47 : decode cX5_says 47 = .ok (.iconst (-1), 1) := dk_2 (dk_at dksX5_says_2 7 rfl rfl)
theorem dX5_says_48 : decode cX5_says 48 = .ok (.goto 13, 3) := dk_167 0 13 (dk_at dksX5_says_2 8 rfl rfl)
theorem dX5_says_51 : decode cX5_says 51 = .ok (.aload_n 0, 1) := dk_42 (dk_at dksX5_says_2 11 rfl rfl)
theorem dX5_says_52 : decode cX5_says 52 = .ok (.getfield 9, 3) := dk_180 0 9 (dk_at dksX5_says_2 12 rfl rfl)
theorem dX5_says_55 : decode cX5_says 55 = .ok (.checkcast 30, 3) := dk_192 0 30 (dk_at dksX5_says_2 15 rfl rfl)
theorem dX5_says_58 : decode cX5_says 58 = .ok (.invokevirtual 32, 3) := dk_182 0 32 (dk_at dksX5_says_2 18 rfl rfl)
theorem dX5_says_61 : decode cX5_says 61 = .ok (.istore_n 3, 1) := dk_62 (dk_at dksX5_says_2 21 rfl rfl)
theorem dX5_says_62 : decode cX5_says 62 = .ok (.goto 171, 3) := dk_167 0 171 (dk_at dksX5_says_3 0 rfl rfl)
theorem dX5_says_65 : decode cX5_says 65 = .ok (.aload_n 0, 1) := dk_42 (dk_at dksX5_says_3 3 rfl rfl)
theorem dX5_says_66 : decode cX5_says 66 = .ok (.getfield 9, 3) := dk_180 0 9 (dk_at dksX5_says_3 4 rfl rfl)
theorem dX5_says_69 : decode cX5_says 69 = .ok (.ifnonnull 7, 3) := dk_199 0 7 (dk_at dksX5_says_3 7 rfl rfl)
theorem dX5_says_72 : decode cX5_says 72 = .ok (.iconst (-1), 1) := dk_2 (dk_at dksX5_says_3 10 rfl rfl)
theorem dX5_says_73 : decode cX5_says 73 = .ok (.goto 17, 3) := dk_167 0 17 (dk_at dksX5_says_3 11 rfl rfl)
theorem dX5_says_76 : decode cX5_says 76 = .ok (.aload_n 2, 1) := dk_44 (dk_at dksX5_says_3 14 rfl rfl)
theorem dX5_says_77 : decode cX5_says 77 = .ok (.aload_n 0, 1) := dk_42 (dk_at dksX5_says_3 15 rfl rfl)
theorem dX5_says_78 : decode cX5_says 78 = .ok (.getfield 9, 3) := dk_180 0 9 (dk_at dksX5_says_3 16 rfl rfl)
theorem dX5_says_81 : decode cX5_says 81 = .ok (.checkcast 36, 3) := dk_192 0 36 (dk_at dksX5_says_3 19 rfl rfl)
theorem dX5_says_84 : decode cX5_says 84 = .ok (.getfield 38, 3) := dk_180 0 38 (dk_at dksX5_says_4 0 rfl rfl)
theorem dX5_says_87 : decode cX5_says 87 = .ok (.invokevirtual 42, 3) := dk_182 0 42 (dk_at dksX5_says_4 3 rfl rfl)
theorem dX5_says_90 : decode cX5_says 90 = .ok (.istore_n 3, 1) := dk_62 (dk_at dksX5_says_4 6 rfl rfl)
theorem dX5_says_91 : decode cX5_says 91 = .ok (.goto 142, 3) := dk_167 0 142 (dk_at dksX5_says_4 7 rfl rfl)
theorem dX5_says_94 : decode cX5_says 94 = .ok (.aload_n 0, 1) := dk_42 (dk_at dksX5_says_4 10 rfl rfl)
theorem dX5_says_95 : decode cX5_says 95 = .ok (.getfield 9, 3) := dk_180 0 9 (dk_at dksX5_says_4 11 rfl rfl)
theorem dX5_says_98 : decode cX5_says 98 = .ok (.ifnonnull 7, 3) := dk_199 0 7 (dk_at dksX5_says_4 14 rfl rfl)
theorem dX5_says_101 : decode cX5_says 101 = .ok (.iconst (-1), 1) := dk_2 (dk_at dksX5_says_4 17 rfl rfl)
theorem dX5_says_102 : decode cX5_says 102 = .ok (.goto 13, 3) := dk_167 0 13 (dk_at dksX5_says_4 18 rfl rfl)
theorem dX5_says_105 : decode cX5_says 105 = .ok (.aload_n 0, 1) := dk_42 (dk_at dksX5_says_4 21 rfl rfl)
theorem dX5_says_106 : decode cX5_says 106 = .ok (.getfield 9, 3) := dk_180 0 9 (dk_at dksX5_says_5 0 rfl rfl)
theorem dX5_says_109 : decode cX5_says 109 = .ok (.checkcast 48, 3) := dk_192 0 48 (dk_at dksX5_says_5 3 rfl rfl)
theorem dX5_says_112 : decode cX5_says 112 = .ok (.invokevirtual 50, 3) := dk_182 0 50 (dk_at dksX5_says_5 6 rfl rfl)
theorem dX5_says_115 : decode cX5_says 115 = .ok (.istore_n 3, 1) := dk_62 (dk_at dksX5_says_5 9 rfl rfl)
theorem dX5_says_116 : decode cX5_says 116 = .ok (.goto 117, 3) := dk_167 0 117 (dk_at dksX5_says_5 10 rfl rfl)
theorem dX5_says_119 : decode cX5_says 119 = .ok (.aload_n 0, 1) := dk_42 (dk_at dksX5_says_5 13 rfl rfl)
theorem dX5_says_120 : decode cX5_says 120 = .ok (.getfield 9, 3) := dk_180 0 9 (dk_at dksX5_says_5 14 rfl rfl)
theorem dX5_says_123 : decode cX5_says 123 = .ok (.ifnonnull 7, 3) := dk_199 0 7 (dk_at dksX5_says_5 17 rfl rfl)
theorem dX5_says_126 : decode cX5_says 126 = .ok (.iconst (-1), 1) := dk_2 (dk_at dksX5_says_5 20 rfl rfl)
theorem dX5_says_127 : decode cX5_says 127 = .ok (.goto 17, 3) := dk_167 0 17 (dk_at dksX5_says_5 21 rfl rfl)
theorem dX5_says_130 : decode cX5_says 130 = .ok (.aload_n 2, 1) := dk_44 (dk_at dksX5_says_6 0 rfl rfl)
theorem dX5_says_131 : decode cX5_says 131 = .ok (.aload_n 0, 1) := dk_42 (dk_at dksX5_says_6 1 rfl rfl)
theorem dX5_says_132 : decode cX5_says 132 = .ok (.getfield 9, 3) := dk_180 0 9 (dk_at dksX5_says_6 2 rfl rfl)
theorem dX5_says_135 : decode cX5_says 135 = .ok (.checkcast 51, 3) := dk_192 0 51 (dk_at dksX5_says_6 5 rfl rfl)
theorem dX5_says_138 : decode cX5_says 138 = .ok (.getfield 53, 3) := dk_180 0 53 (dk_at dksX5_says_6 8 rfl rfl)
theorem dX5_says_141 : decode cX5_says 141 = .ok (.invokevirtual 54, 3) := dk_182 0 54 (dk_at dksX5_says_6 11 rfl rfl)
theorem dX5_says_144 : decode cX5_says 144 = .ok (.istore_n 3, 1) := dk_62 (dk_at dksX5_says_6 14 rfl rfl)
theorem dX5_says_145 : decode cX5_says 145 = .ok (.goto 88, 3) := dk_167 0 88 (dk_at dksX5_says_6 15 rfl rfl)
theorem dX5_says_148 : decode cX5_says 148 = .ok (.aload_n 0, 1) := dk_42 (dk_at dksX5_says_6 18 rfl rfl)
theorem dX5_says_149 : decode cX5_says 149 = .ok (.getfield 9, 3) := dk_180 0 9 (dk_at dksX5_says_6 19 rfl rfl)
theorem dX5_says_152 : decode cX5_says 152 = .ok (.ifnonnull 7, 3) := dk_199 0 7 (dk_at dksX5_says_7 0 rfl rfl)
theorem dX5_says_155 : decode cX5_says 155 = .ok (.iconst (-1), 1) := dk_2 (dk_at dksX5_says_7 3 rfl rfl)
theorem dX5_says_156 : decode cX5_says 156 = .ok (.goto 17, 3) := dk_167 0 17 (dk_at dksX5_says_7 4 rfl rfl)
theorem dX5_says_159 : decode cX5_says 159 = .ok (.aload_n 2, 1) := dk_44 (dk_at dksX5_says_7 7 rfl rfl)
theorem dX5_says_160 : decode cX5_says 160 = .ok (.aload_n 0, 1) := dk_42 (dk_at dksX5_says_7 8 rfl rfl)
theorem dX5_says_161 : decode cX5_says 161 = .ok (.getfield 9, 3) := dk_180 0 9 (dk_at dksX5_says_7 9 rfl rfl)
theorem dX5_says_164 : decode cX5_says 164 = .ok (.checkcast 57, 3) := dk_192 0 57 (dk_at dksX5_says_7 12 rfl rfl)
theorem dX5_says_167 : decode cX5_says 167 = .ok (.getfield 59, 3) := dk_180 0 59 (dk_at dksX5_says_7 15 rfl rfl)
theorem dX5_says_170 : decode cX5_says 170 = .ok (.invokevirtual 42, 3) := dk_182 0 42 (dk_at dksX5_says_7 18 rfl rfl)
theorem dX5_says_173 : decode cX5_says 173 = .ok (.istore_n 3, 1) := dk_62 (dk_at dksX5_says_7 21 rfl rfl)
theorem dX5_says_174 : decode cX5_says 174 = .ok (.goto 59, 3) := dk_167 0 59 (dk_at dksX5_says_8 0 rfl rfl)
theorem dX5_says_177 : decode cX5_says 177 = .ok (.aload_n 0, 1) := dk_42 (dk_at dksX5_says_8 3 rfl rfl)
theorem dX5_says_178 : decode cX5_says 178 = .ok (.getfield 9, 3) := dk_180 0 9 (dk_at dksX5_says_8 4 rfl rfl)
theorem dX5_says_181 : decode cX5_says 181 = .ok (.ifnonnull 7, 3) := dk_199 0 7 (dk_at dksX5_says_8 7 rfl rfl)
theorem dX5_says_184 : decode cX5_says 184 = .ok (.iconst (-1), 1) := dk_2 (dk_at dksX5_says_8 10 rfl rfl)
theorem dX5_says_185 : decode cX5_says 185 = .ok (.goto 17, 3) := dk_167 0 17 (dk_at dksX5_says_8 11 rfl rfl)
theorem dX5_says_188 : decode cX5_says 188 = .ok (.aload_n 2, 1) := dk_44 (dk_at dksX5_says_8 14 rfl rfl)
theorem dX5_says_189 : decode cX5_says 189 = .ok (.aload_n 0, 1) := dk_42 (dk_at dksX5_says_8 15 rfl rfl)
theorem dX5_says_190 : decode cX5_says 190 = .ok (.getfield 9, 3) := dk_180 0 9 (dk_at dksX5_says_8 16 rfl rfl)
theorem dX5_says_193 : decode cX5_says 193 = .ok (.checkcast 60, 3) := dk_192 0 60 (dk_at dksX5_says_8 19 rfl rfl)
theorem dX5_says_196 : decode cX5_says 196 = .ok (.getfield 62, 3) := dk_180 0 62 (dk_at dksX5_says_9 0 rfl rfl)
theorem dX5_says_199 : decode cX5_says 199 = .ok (.invokevirtual 54, 3) := dk_182 0 54 (dk_at dksX5_says_9 3 rfl rfl)
theorem dX5_says_202 : decode cX5_says 202 = .ok (.istore_n 3, 1) := dk_62 (dk_at dksX5_says_9 6 rfl rfl)
theorem dX5_says_203 : decode cX5_says 203 = .ok (.goto 30, 3) := dk_167 0 30 (dk_at dksX5_says_9 7 rfl rfl)
theorem dX5_says_206 : decode cX5_says 206 = .ok (.aload_n 0, 1) := dk_42 (dk_at dksX5_says_9 10 rfl rfl)
theorem dX5_says_207 : decode cX5_says 207 = .ok (.getfield 9, 3) := dk_180 0 9 (dk_at dksX5_says_9 11 rfl rfl)
theorem dX5_says_210 : decode cX5_says 210 = .ok (.ifnonnull 7, 3) := dk_199 0 7 (dk_at dksX5_says_9 14 rfl rfl)
theorem dX5_says_213 : decode cX5_says 213 = .ok (.iconst (-1), 1) := dk_2 (dk_at dksX5_says_9 17 rfl rfl)
theorem dX5_says_214 : decode cX5_says 214 = .ok (.goto 18, 3) := dk_167 0 18 (dk_at dksX5_says_9 18 rfl rfl)
theorem dX5_says_217 : decode cX5_says 217 = .ok (.aload_n 2, 1) := dk_44 (dk_at dksX5_says_9 21 rfl rfl)
theorem dX5_says_218 : decode cX5_says 218 = .ok (.getfield 63, 3) := dk_180 0 63 (dk_at dksX5_says_10 0 rfl rfl)
theorem dX5_says_221 : decode cX5_says 221 = .ok (.aload_n 0, 1) := dk_42 (dk_at dksX5_says_10 3 rfl rfl)
theorem dX5_says_222 : decode cX5_says 222 = .ok (.getfield 9, 3) := dk_180 0 9 (dk_at dksX5_says_10 4 rfl rfl)
theorem dX5_says_225 : decode cX5_says 225 = .ok (.checkcast 28, 3) := dk_192 0 28 (dk_at dksX5_says_10 7 rfl rfl)
theorem dX5_says_228 : decode cX5_says 228 = .ok (.getfield 67, 3) := dk_180 0 67 (dk_at dksX5_says_10 10 rfl rfl)
theorem dX5_says_231 : decode cX5_says 231 = .ok (.iaload, 1) := dk_46 (dk_at dksX5_says_10 13 rfl rfl)
theorem dX5_says_232 : decode cX5_says 232 = .ok (.istore_n 3, 1) := dk_62 (dk_at dksX5_says_10 14 rfl rfl)
theorem dX5_says_233 : decode cX5_says 233 = .ok (.aload_n 0, 1) := dk_42 (dk_at dksX5_says_10 15 rfl rfl)
theorem dX5_says_234 : decode cX5_says 234 = .ok (.getfield 9, 3) := dk_180 0 9 (dk_at dksX5_says_10 16 rfl rfl)
theorem dX5_says_237 : decode cX5_says 237 = .ok (.ifnull 7, 3) := dk_198 0 7 (dk_at dksX5_says_10 19 rfl rfl)
theorem dX5_says_240 : decode cX5_says 240 = .ok (.iconst 1, 1) := dk_4 (dk_at dksX5_says_10 22 rfl rfl)
theorem dX5_says_241 : decode cX5_says 241 = .ok (.goto 4, 3) := dk_167 0 4 (dk_at dksX5_says_11 0 rfl rfl)
theorem dX5_says_244 : decode cX5_says 244 = .ok (.iconst 0, 1) := dk_3 (dk_at dksX5_says_11 3 rfl rfl)
theorem dX5_says_245 : decode cX5_says 245 = .ok (.bipush (-3), 2) := dk_16 253 (dk_at dksX5_says_11 4 rfl rfl)
theorem dX5_says_247 : decode cX5_says 247 = .ok (.invokestatic 17, 3) := dk_184 0 17 (dk_at dksX5_says_11 6 rfl rfl)
theorem dX5_says_250 : decode cX5_says 250 = .ok (.iload_n 3, 1) := dk_29 (dk_at dksX5_says_11 9 rfl rfl)
theorem dX5_says_251 : decode cX5_says 251 = .ok (.ireturn, 1) := dk_172 (dk_at dksX5_says_11 10 rfl rfl)
theorem dX5_says_252 : decode cX5_says 252 = .ok (.astore_n 3, 1) := dk_78 (dk_at dksX5_says_11 11 rfl rfl)
theorem dX5_says_253 : decode cX5_says 253 = .ok (.new 23, 3) := dk_187 0 23 (dk_at dksX5_says_11 12 rfl rfl)
theorem dX5_says_256 : decode cX5_says 256 = .ok (.dup, 1) := dk_89 (dk_at dksX5_says_11 15 rfl rfl)
theorem dX5_says_257 : decode cX5_says 257 = .ok (.bipush (-2), 2) := dk_16 254 (dk_at dksX5_says_11 16 rfl rfl)
theorem dX5_says_259 : decode cX5_says 259 = .ok (.invokespecial 25, 3) := dk_183 0 25 (dk_at dksX5_says_11 18 rfl rfl)
theorem dX5_says_262 : decode cX5_says 262 = .ok (.athrow, 1) := dk_191 (dk_at dksX5_says_11 21 rfl rfl)
theorem q99 : (Jvm.Cond.initialized "InASackToTheRope$Shelf") ∈ lw_all := lw_g (lw_at lw_m1 6 rfl) rfl
theorem q275 : (Jvm.Cond.fieldLink "InASackToTheRope$Shelf" (63 : Nat) "InASackToTheRope$Field" "legs" "[I") ∈ lw_all := lw_g (lw_at lw_m1 182 rfl) rfl
theorem q318 : (Jvm.Cond.instantiable "InASackToTheRope$Shelf" (1 : Nat)) ∈ lw_all := lw_g (lw_at lw_m1 225 rfl) rfl
theorem q320 : (Jvm.Cond.instanceMethod ({ cls := "InASackToTheRope$Shelf", name := "<init>", desc := "()V" } : Jvm.MethodName)) ∈ lw_all := lw_g (lw_at lw_m1 227 rfl) rfl
theorem q321 : (Jvm.Cond.code ({ cls := "InASackToTheRope$Shelf", name := "<init>", desc := "()V" } : Jvm.MethodName) prog_18_method_1_code (1 : Nat) (Option.none : Option Jvm.ClassFile.FieldType)) ∈ lw_all := lw_g (lw_at lw_m1 228 rfl) rfl
theorem q322 : (Jvm.Cond.methodLink "InASackToTheRope$Shelf" (3 : Nat) ({ cls := "java/lang/Object", name := "<init>", desc := "()V" } : Jvm.MethodName)) ∈ lw_all := lw_g (lw_at lw_m1 229 rfl) rfl
theorem q323 : (Jvm.Cond.fieldLink "InASackToTheRope$Shelf" (9 : Nat) "InASackToTheRope$Shelf" "held" "Ljava/lang/Object;") ∈ lw_all := lw_g (lw_at lw_m1 230 rfl) rfl
theorem q325 : (Jvm.Cond.lays "InASackToTheRope$Shelf" "InASackToTheRope$Shelf" "held" "Ljava/lang/Object;") ∈ lw_all := lw_g (lw_at lw_m1 232 rfl) rfl
theorem q326 : (Jvm.Cond.soleField "InASackToTheRope$Shelf" "held") ∈ lw_all := lw_g (lw_at lw_m1 233 rfl) rfl
theorem q327 : (Jvm.Cond.superclass "InASackToTheRope$Shelf" "java/lang/Object") ∈ lw_all := lw_g (lw_at lw_m1 234 rfl) rfl
theorem q547 : (Jvm.Cond.instanceMethod ({ cls := "InASackToTheRope$Shelf", name := "row", desc := "()LInASackToTheRope$Row;" } : Jvm.MethodName)) ∈ lw_all := lw_g (lw_at lw_m2 214 rfl) rfl
theorem q548 : (Jvm.Cond.selects "InASackToTheRope$Shelf" ({ cls := "InASackToTheRope$Shelf", name := "row", desc := "()LInASackToTheRope$Row;" } : Jvm.MethodName) ({ cls := "InASackToTheRope$Shelf", name := "row", desc := "()LInASackToTheRope$Row;" } : Jvm.MethodName)) ∈ lw_all := lw_g (lw_at lw_m2 215 rfl) rfl
theorem q549 : (Jvm.Cond.codeWith ({ cls := "InASackToTheRope$Shelf", name := "row", desc := "()LInASackToTheRope$Row;" } : Jvm.MethodName) prog_18_method_2_code (2 : Nat) (Option.some (Jvm.ClassFile.FieldType.object "InASackToTheRope$Row")) [((0 : Nat), (23 : Nat), (24 : Nat), (21 : Nat))]) ∈ lw_all := lw_g (lw_at lw_m2 216 rfl) rfl
theorem q550 : (Jvm.Cond.classLink "InASackToTheRope$Shelf" (21 : Nat) "java/lang/ClassCastException") ∈ lw_all := lw_g (lw_at lw_m2 217 rfl) rfl
theorem q564 : (Jvm.Cond.classLink "InASackToTheRope$Shelf" (15 : Nat) "InASackToTheRope$Row") ∈ lw_all := lw_g (lw_at lw_m2 231 rfl) rfl
theorem q565 : (Jvm.Cond.methodLink "InASackToTheRope$Shelf" (17 : Nat) ({ cls := "InASackToTheRope", name := "need", desc := "(ZI)V" } : Jvm.MethodName)) ∈ lw_all := lw_g (lw_at lw_m2 232 rfl) rfl
theorem q566 : (Jvm.Cond.classLink "InASackToTheRope$Shelf" (23 : Nat) "InASackToTheRope$Refused") ∈ lw_all := lw_g (lw_at lw_m2 233 rfl) rfl
theorem q567 : (Jvm.Cond.methodLink "InASackToTheRope$Shelf" (25 : Nat) ({ cls := "InASackToTheRope$Refused", name := "<init>", desc := "(I)V" } : Jvm.MethodName)) ∈ lw_all := lw_g (lw_at lw_m2 234 rfl) rfl
theorem q589 : (Jvm.Cond.instanceMethod ({ cls := "InASackToTheRope$Shelf", name := "holdsHopper", desc := "()Z" } : Jvm.MethodName)) ∈ lw_all := lw_g (lw_at lw_m3 16 rfl) rfl
theorem q590 : (Jvm.Cond.selects "InASackToTheRope$Shelf" ({ cls := "InASackToTheRope$Shelf", name := "holdsHopper", desc := "()Z" } : Jvm.MethodName) ({ cls := "InASackToTheRope$Shelf", name := "holdsHopper", desc := "()Z" } : Jvm.MethodName)) ∈ lw_all := lw_g (lw_at lw_m3 17 rfl) rfl
theorem q591 : (Jvm.Cond.code ({ cls := "InASackToTheRope$Shelf", name := "holdsHopper", desc := "()Z" } : Jvm.MethodName) prog_18_method_3_code (1 : Nat) (Option.some Jvm.ClassFile.FieldType.boolean)) ∈ lw_all := lw_g (lw_at lw_m3 18 rfl) rfl
theorem q592 : (Jvm.Cond.classLink "InASackToTheRope$Shelf" (28 : Nat) "InASackToTheRope$Hopper") ∈ lw_all := lw_g (lw_at lw_m3 19 rfl) rfl
theorem q670 : (Jvm.Cond.instanceMethod ({ cls := "InASackToTheRope$Shelf", name := "says", desc := "(ILInASackToTheRope$Field;)I" } : Jvm.MethodName)) ∈ lw_all := lw_g (lw_at lw_m3 97 rfl) rfl
theorem q671 : (Jvm.Cond.selects "InASackToTheRope$Shelf" ({ cls := "InASackToTheRope$Shelf", name := "says", desc := "(ILInASackToTheRope$Field;)I" } : Jvm.MethodName) ({ cls := "InASackToTheRope$Shelf", name := "says", desc := "(ILInASackToTheRope$Field;)I" } : Jvm.MethodName)) ∈ lw_all := lw_g (lw_at lw_m3 98 rfl) rfl
theorem q672 : (Jvm.Cond.codeWith ({ cls := "InASackToTheRope$Shelf", name := "says", desc := "(ILInASackToTheRope$Field;)I" } : Jvm.MethodName) prog_18_method_4_code (4 : Nat) (Option.some Jvm.ClassFile.FieldType.int) [((0 : Nat), (251 : Nat), (252 : Nat), (21 : Nat))]) ∈ lw_all := lw_g (lw_at lw_m3 99 rfl) rfl
theorem q673 : (Jvm.Cond.classLink "InASackToTheRope$Shelf" (30 : Nat) "InASackToTheRope$Even") ∈ lw_all := lw_g (lw_at lw_m3 100 rfl) rfl
theorem q674 : (Jvm.Cond.methodLink "InASackToTheRope$Shelf" (32 : Nat) ({ cls := "InASackToTheRope$Even", name := "puff", desc := "()I" } : Jvm.MethodName)) ∈ lw_all := lw_g (lw_at lw_m3 101 rfl) rfl
theorem q688 : (Jvm.Cond.classLink "InASackToTheRope$Shelf" (36 : Nat) "InASackToTheRope$Far") ∈ lw_all := lw_g (lw_at lw_m3 115 rfl) rfl
theorem q689 : (Jvm.Cond.methodLink "InASackToTheRope$Shelf" (42 : Nat) ({ cls := "InASackToTheRope$Field", name := "strideOf", desc := "(I)I" } : Jvm.MethodName)) ∈ lw_all := lw_g (lw_at lw_m3 116 rfl) rfl
theorem q742 : (Jvm.Cond.classLink "InASackToTheRope$Shelf" (48 : Nat) "InASackToTheRope$Calm") ∈ lw_all := lw_g (lw_at lw_m3 169 rfl) rfl
theorem q743 : (Jvm.Cond.methodLink "InASackToTheRope$Shelf" (50 : Nat) ({ cls := "InASackToTheRope$Calm", name := "puff", desc := "()I" } : Jvm.MethodName)) ∈ lw_all := lw_g (lw_at lw_m3 170 rfl) rfl
theorem q744 : (Jvm.Cond.classLink "InASackToTheRope$Shelf" (51 : Nat) "InASackToTheRope$Running") ∈ lw_all := lw_g (lw_at lw_m3 171 rfl) rfl
theorem q745 : (Jvm.Cond.methodLink "InASackToTheRope$Shelf" (54 : Nat) ({ cls := "InASackToTheRope$Field", name := "riskOf", desc := "(I)I" } : Jvm.MethodName)) ∈ lw_all := lw_g (lw_at lw_m3 172 rfl) rfl
theorem q769 : (Jvm.Cond.classLink "InASackToTheRope$Shelf" (57 : Nat) "InASackToTheRope$Greedy") ∈ lw_all := lw_g (lw_at lw_m3 196 rfl) rfl
theorem q770 : (Jvm.Cond.classLink "InASackToTheRope$Shelf" (60 : Nat) "InASackToTheRope$Tiptoe") ∈ lw_all := lw_g (lw_at lw_m3 197 rfl) rfl
theorem q793 : (Jvm.Cond.fieldLink "InASackToTheRope$Shelf" (38 : Nat) "InASackToTheRope$Far" "index" "I") ∈ lw_all := lw_g (lw_at lw_m3 220 rfl) rfl
theorem q795 : (Jvm.Cond.fieldLink "InASackToTheRope$Shelf" (53 : Nat) "InASackToTheRope$Running" "index" "I") ∈ lw_all := lw_g (lw_at lw_m3 222 rfl) rfl
theorem q797 : (Jvm.Cond.fieldLink "InASackToTheRope$Shelf" (59 : Nat) "InASackToTheRope$Greedy" "index" "I") ∈ lw_all := lw_g (lw_at lw_m3 224 rfl) rfl
theorem q799 : (Jvm.Cond.fieldLink "InASackToTheRope$Shelf" (62 : Nat) "InASackToTheRope$Tiptoe" "index" "I") ∈ lw_all := lw_g (lw_at lw_m3 226 rfl) rfl
theorem q801 : (Jvm.Cond.fieldLink "InASackToTheRope$Shelf" (67 : Nat) "InASackToTheRope$Hopper" "index" "I") ∈ lw_all := lw_g (lw_at lw_m3 228 rfl) rfl
theorem in_X5 : ∀ w ∈ wsX50, w ∈ lw_all := lw_in wsX50 [325] (by decide +kernel) (by decide +kernel)
/-! InASackToTheRope$Refused -/
set_option maxRecDepth 100000
def RX7 : String := "InASackToTheRope$Refused"
def TX7 : u_T := fun k => match k with
  | 0 => ("java/lang/Throwable", "cause", "Ljava/lang/Throwable;", false)
  | 1 => ("java/lang/Throwable", "stackTrace", "[Ljava/lang/StackTraceElement;", false)
  | 2 => ("java/lang/Throwable", "suppressedExceptions", "Ljava/util/List;", false)
  | 3 => ("java/lang/Throwable", "detailMessage", "Ljava/lang/String;", false)
  | 4 => ("java/lang/Throwable", "backtrace", "Ljava/lang/Object;", false)
  | 5 => ("java/lang/Throwable", "depth", "I", false)
  | _ => ("InASackToTheRope$Refused", "why", "I", true)
def tyX7 : Nat → FieldType := fun k => match k with
  | 0 => .object "java/lang/Throwable"
  | 1 => .array (.object "java/lang/StackTraceElement")
  | 2 => .object "java/util/List"
  | 3 => .object "java/lang/String"
  | 4 => .object "java/lang/Object"
  | 5 => .int
  | _ => .int
abbrev wsX70 : List Cond := u_ws RX7 TX7 7
theorem nmX7 : ∀ a, a < 7 → ∀ b, b < 7 → a ≠ b → (TX7 a).2.1 ≠ (TX7 b).2.1 := by decide +kernel
theorem tyX7_ok : ∀ k, k < 7 → parseFieldDescriptor (TX7 k).2.2.1 = some (tyX7 k) := by decide +kernel
abbrev cX7_init : ByteArray := prog_14_method_1_code
def yX7_init : MethodName := ⟨RX7, "<init>", "(I)V"⟩
def dkwX7_init_0 : List UInt8 := [42, 1, 1, 3, 3, 183, 0, 1, 42, 27, 181, 0, 7, 177]
abbrev dktX7_init_0 : List UInt8 := dkwX7_init_0 ++ []
theorem dksX7_init_0 : cX7_init.data.toList.drop 0 = dktX7_init_0 := by decide +kernel
theorem dX7_init_0 : decode cX7_init 0 = .ok (.aload_n 0, 1) := dk_42 (dk_at dksX7_init_0 0 rfl rfl)
theorem dX7_init_1 : decode cX7_init 1 = .ok (.aconst_null, 1) := dk_1 (dk_at dksX7_init_0 1 rfl rfl)
theorem dX7_init_2 : decode cX7_init 2 = .ok (.aconst_null, 1) := dk_1 (dk_at dksX7_init_0 2 rfl rfl)
theorem dX7_init_3 : decode cX7_init 3 = .ok (.iconst 0, 1) := dk_3 (dk_at dksX7_init_0 3 rfl rfl)
theorem dX7_init_4 : decode cX7_init 4 = .ok (.iconst 0, 1) := dk_3 (dk_at dksX7_init_0 4 rfl rfl)
theorem dX7_init_5 : decode cX7_init 5 = .ok (.invokespecial 1, 3) := dk_183 0 1 (dk_at dksX7_init_0 5 rfl rfl)
theorem dX7_init_8 : decode cX7_init 8 = .ok (.aload_n 0, 1) := dk_42 (dk_at dksX7_init_0 8 rfl rfl)
theorem dX7_init_9 : decode cX7_init 9 = .ok (.iload_n 1, 1) := dk_27 (dk_at dksX7_init_0 9 rfl rfl)
theorem dX7_init_10 : decode cX7_init 10 = .ok (.putfield 7, 3) := dk_181 0 7 (dk_at dksX7_init_0 10 rfl rfl)
theorem dX7_init_13 : decode cX7_init 13 = .ok (.return_, 1) := dk_177 (dk_at dksX7_init_0 13 rfl rfl)
theorem q107 : (Jvm.Cond.initialized "InASackToTheRope$Refused") ∈ lw_all := lw_g (lw_at lw_m1 14 rfl) rfl
theorem q393 : (Jvm.Cond.selects "InASackToTheRope$Refused" ({ cls := "java/lang/Throwable", name := "fillInStackTrace", desc := "()Ljava/lang/Throwable;" } : Jvm.MethodName) ({ cls := "java/lang/Throwable", name := "fillInStackTrace", desc := "()Ljava/lang/Throwable;" } : Jvm.MethodName)) ∈ lw_all := lw_g (lw_at lw_m2 60 rfl) rfl
theorem q446 : (Jvm.Cond.instantiable "InASackToTheRope$Refused" (7 : Nat)) ∈ lw_all := lw_g (lw_at lw_m2 113 rfl) rfl
theorem q447 : (Jvm.Cond.castable "InASackToTheRope$Refused" "InASackToTheRope$Refused") ∈ lw_tbl := lw_at lw_m2 114 rfl
theorem q448 : (Jvm.Cond.selects "InASackToTheRope$Refused" ({ cls := "java/lang/Throwable", name := "fillInStackTrace", desc := "(I)Ljava/lang/Throwable;" } : Jvm.MethodName) ({ cls := "java/lang/Throwable", name := "fillInStackTrace", desc := "(I)Ljava/lang/Throwable;" } : Jvm.MethodName)) ∈ lw_all := lw_g (lw_at lw_m2 115 rfl) rfl
theorem q449 : (Jvm.Cond.lays "InASackToTheRope$Refused" "java/lang/Throwable" "cause" "Ljava/lang/Throwable;") ∈ lw_all := lw_g (lw_at lw_m2 116 rfl) rfl
theorem q450 : (Jvm.Cond.lays "InASackToTheRope$Refused" "java/lang/Throwable" "stackTrace" "[Ljava/lang/StackTraceElement;") ∈ lw_all := lw_g (lw_at lw_m2 117 rfl) rfl
theorem q451 : (Jvm.Cond.lays "InASackToTheRope$Refused" "java/lang/Throwable" "suppressedExceptions" "Ljava/util/List;") ∈ lw_all := lw_g (lw_at lw_m2 118 rfl) rfl
theorem q452 : (Jvm.Cond.lays "InASackToTheRope$Refused" "java/lang/Throwable" "detailMessage" "Ljava/lang/String;") ∈ lw_all := lw_g (lw_at lw_m2 119 rfl) rfl
theorem q453 : (Jvm.Cond.lays "InASackToTheRope$Refused" "java/lang/Throwable" "backtrace" "Ljava/lang/Object;") ∈ lw_all := lw_g (lw_at lw_m2 120 rfl) rfl
theorem q455 : (Jvm.Cond.instanceMethod ({ cls := "InASackToTheRope$Refused", name := "<init>", desc := "(I)V" } : Jvm.MethodName)) ∈ lw_all := lw_g (lw_at lw_m2 122 rfl) rfl
theorem q456 : (Jvm.Cond.code ({ cls := "InASackToTheRope$Refused", name := "<init>", desc := "(I)V" } : Jvm.MethodName) prog_14_method_1_code (2 : Nat) (Option.none : Option Jvm.ClassFile.FieldType)) ∈ lw_all := lw_g (lw_at lw_m2 123 rfl) rfl
theorem q457 : (Jvm.Cond.methodLink "InASackToTheRope$Refused" (1 : Nat) ({ cls := "java/lang/Exception", name := "<init>", desc := "(Ljava/lang/String;Ljava/lang/Throwable;ZZ)V" } : Jvm.MethodName)) ∈ lw_all := lw_g (lw_at lw_m2 124 rfl) rfl
theorem q463 : (Jvm.Cond.fieldLink "InASackToTheRope$Refused" (7 : Nat) "InASackToTheRope$Refused" "why" "I") ∈ lw_all := lw_g (lw_at lw_m2 130 rfl) rfl
theorem q465 : (Jvm.Cond.laysFinal "InASackToTheRope$Refused" "InASackToTheRope$Refused" "why" "I") ∈ lw_all := lw_g (lw_at lw_m2 132 rfl) rfl
theorem q466 : (Jvm.Cond.soleField "InASackToTheRope$Refused" "why") ∈ lw_all := lw_g (lw_at lw_m2 133 rfl) rfl
theorem q467 : (Jvm.Cond.lays "InASackToTheRope$Refused" "java/lang/Throwable" "depth" "I") ∈ lw_all := lw_g (lw_at lw_m2 134 rfl) rfl
theorem q468 : (Jvm.Cond.superclass "InASackToTheRope$Refused" "java/lang/Exception") ∈ lw_all := lw_g (lw_at lw_m2 135 rfl) rfl
theorem in_X7 : ∀ w ∈ wsX70, w ∈ lw_all := lw_in wsX70 [449, 450, 451, 452, 453, 467, 465] (by decide +kernel) (by decide +kernel)
/-! InASackToTheRope$Row -/
set_option maxRecDepth 100000
def RX8 : String := "InASackToTheRope$Row"
abbrev cX8_init : ByteArray := prog_15_method_1_code
def yX8_init : MethodName := ⟨RX8, "<init>", "()V"⟩
theorem dX8_init_0 : decode cX8_init 0 = .ok (.aload_n 0, 1) := by decide +kernel
theorem dX8_init_1 : decode cX8_init 1 = .ok (.invokespecial 1, 3) := by decide +kernel
theorem dX8_init_4 : decode cX8_init 4 = .ok (.return_, 1) := by decide +kernel
abbrev cX8_asInt : ByteArray := prog_15_method_9_code
def yX8_asInt : MethodName := ⟨RX8, "asInt", "(I)I"⟩
def dkwX8_asInt_0 : List UInt8 := [42, 27, 182, 0, 7, 136, 172]
abbrev dktX8_asInt_0 : List UInt8 := dkwX8_asInt_0 ++ []
theorem dksX8_asInt_0 : cX8_asInt.data.toList.drop 0 = dktX8_asInt_0 := by decide +kernel
theorem dX8_asInt_0 : decode cX8_asInt 0 = .ok (.aload_n 0, 1) := dk_42 (dk_at dksX8_asInt_0 0 rfl rfl)
theorem dX8_asInt_1 : decode cX8_asInt 1 = .ok (.iload_n 1, 1) := dk_27 (dk_at dksX8_asInt_0 1 rfl rfl)
theorem dX8_asInt_2 : decode cX8_asInt 2 = .ok (.invokevirtual 7, 3) := dk_182 0 7 (dk_at dksX8_asInt_0 2 rfl rfl)
theorem dX8_asInt_5 : decode cX8_asInt 5 = .ok (.l2i, 1) := dk_136 (dk_at dksX8_asInt_0 5 rfl rfl)
theorem dX8_asInt_6 : decode cX8_asInt 6 = .ok (.ireturn, 1) := dk_172 (dk_at dksX8_asInt_0 6 rfl rfl)
theorem q109 : (Jvm.Cond.initialized "InASackToTheRope$Row") ∈ lw_all := lw_g (lw_at lw_m1 16 rfl) rfl
theorem q499 : (Jvm.Cond.instanceMethod ({ cls := "InASackToTheRope$Row", name := "<init>", desc := "()V" } : Jvm.MethodName)) ∈ lw_all := lw_g (lw_at lw_m2 166 rfl) rfl
theorem q500 : (Jvm.Cond.code ({ cls := "InASackToTheRope$Row", name := "<init>", desc := "()V" } : Jvm.MethodName) prog_15_method_1_code (1 : Nat) (Option.none : Option Jvm.ClassFile.FieldType)) ∈ lw_all := lw_g (lw_at lw_m2 167 rfl) rfl
theorem q501 : (Jvm.Cond.methodLink "InASackToTheRope$Row" (1 : Nat) ({ cls := "java/lang/Object", name := "<init>", desc := "()V" } : Jvm.MethodName)) ∈ lw_all := lw_g (lw_at lw_m2 168 rfl) rfl
theorem q569 : (Jvm.Cond.declares ({ cls := "InASackToTheRope$Row", name := "put", desc := "(IJ)V" } : Jvm.MethodName)) ∈ lw_tbl := lw_at lw_m2 236 rfl
theorem q570 : (Jvm.Cond.sameMethod "InASackToTheRope$Row" "InASackToTheRope$Row" "put" "(IJ)V") ∈ lw_all := lw_g (lw_at lw_m2 237 rfl) rfl
theorem q594 : (Jvm.Cond.declares ({ cls := "InASackToTheRope$Row", name := "sort", desc := "()I" } : Jvm.MethodName)) ∈ lw_tbl := lw_at lw_m3 21 rfl
theorem q595 : (Jvm.Cond.sameMethod "InASackToTheRope$Row" "InASackToTheRope$Row" "sort" "()I") ∈ lw_all := lw_g (lw_at lw_m3 22 rfl) rfl
theorem q609 : (Jvm.Cond.declares ({ cls := "InASackToTheRope$Row", name := "held", desc := "()Ljava/lang/Object;" } : Jvm.MethodName)) ∈ lw_tbl := lw_at lw_m3 36 rfl
theorem q610 : (Jvm.Cond.sameMethod "InASackToTheRope$Row" "InASackToTheRope$Row" "held" "()Ljava/lang/Object;") ∈ lw_all := lw_g (lw_at lw_m3 37 rfl) rfl
theorem q631 : (Jvm.Cond.declares ({ cls := "InASackToTheRope$Row", name := "get", desc := "(I)J" } : Jvm.MethodName)) ∈ lw_tbl := lw_at lw_m3 58 rfl
theorem q632 : (Jvm.Cond.sameMethod "InASackToTheRope$Row" "InASackToTheRope$Row" "get" "(I)J") ∈ lw_all := lw_g (lw_at lw_m3 59 rfl) rfl
theorem q990 : (Jvm.Cond.declares ({ cls := "InASackToTheRope$Row", name := "length", desc := "()I" } : Jvm.MethodName)) ∈ lw_tbl := lw_at lw_m4 177 rfl
theorem q991 : (Jvm.Cond.sameMethod "InASackToTheRope$Row" "InASackToTheRope$Row" "length" "()I") ∈ lw_all := lw_g (lw_at lw_m4 178 rfl) rfl
theorem q1005 : (Jvm.Cond.instanceMethod ({ cls := "InASackToTheRope$Row", name := "asInt", desc := "(I)I" } : Jvm.MethodName)) ∈ lw_all := lw_g (lw_at lw_m4 192 rfl) rfl
theorem q1006 : (Jvm.Cond.sameMethod "InASackToTheRope$Row" "InASackToTheRope$Row" "asInt" "(I)I") ∈ lw_all := lw_g (lw_at lw_m4 193 rfl) rfl
theorem q1011 : (Jvm.Cond.code ({ cls := "InASackToTheRope$Row", name := "asInt", desc := "(I)I" } : Jvm.MethodName) prog_15_method_9_code (2 : Nat) (Option.some Jvm.ClassFile.FieldType.int)) ∈ lw_all := lw_g (lw_at lw_m4 198 rfl) rfl
theorem q1012 : (Jvm.Cond.methodLink "InASackToTheRope$Row" (7 : Nat) ({ cls := "InASackToTheRope$Row", name := "get", desc := "(I)J" } : Jvm.MethodName)) ∈ lw_all := lw_g (lw_at lw_m4 199 rfl) rfl
/-! InASackToTheRope$Bytes -/
set_option maxRecDepth 100000
def RX9 : String := "InASackToTheRope$Bytes"
def TX9 : u_T := fun k => match k with
  | _ => ("InASackToTheRope$Bytes", "e", "[B", true)
def tyX9 : Nat → FieldType := fun k => match k with
  | _ => .array .byte
abbrev wsX90 : List Cond := u_ws RX9 TX9 1
theorem nmX9 : ∀ a, a < 1 → ∀ b, b < 1 → a ≠ b → (TX9 a).2.1 ≠ (TX9 b).2.1 := by decide +kernel
theorem tyX9_ok : ∀ k, k < 1 → parseFieldDescriptor (TX9 k).2.2.1 = some (tyX9 k) := by decide +kernel
abbrev cX9_init : ByteArray := prog_2_method_1_code
def yX9_init : MethodName := ⟨RX9, "<init>", "(I)V"⟩
def dkwX9_init_0 : List UInt8 := [42, 183, 0, 1, 42, 27, 188, 8, 181, 0, 7, 177]
abbrev dktX9_init_0 : List UInt8 := dkwX9_init_0 ++ []
theorem dksX9_init_0 : cX9_init.data.toList.drop 0 = dktX9_init_0 := by decide +kernel
theorem dX9_init_0 : decode cX9_init 0 = .ok (.aload_n 0, 1) := dk_42 (dk_at dksX9_init_0 0 rfl rfl)
theorem dX9_init_1 : decode cX9_init 1 = .ok (.invokespecial 1, 3) := dk_183 0 1 (dk_at dksX9_init_0 1 rfl rfl)
theorem dX9_init_4 : decode cX9_init 4 = .ok (.aload_n 0, 1) := dk_42 (dk_at dksX9_init_0 4 rfl rfl)
theorem dX9_init_5 : decode cX9_init 5 = .ok (.iload_n 1, 1) := dk_27 (dk_at dksX9_init_0 5 rfl rfl)
theorem dX9_init_6 : decode cX9_init 6 = .ok (.newarray .byte, 2) := dk_188_8 (dk_at dksX9_init_0 6 rfl rfl)
theorem dX9_init_8 : decode cX9_init 8 = .ok (.putfield 7, 3) := dk_181 0 7 (dk_at dksX9_init_0 8 rfl rfl)
theorem dX9_init_11 : decode cX9_init 11 = .ok (.return_, 1) := dk_177 (dk_at dksX9_init_0 11 rfl rfl)
abbrev cX9_put : ByteArray := prog_2_method_4_code
def yX9_put : MethodName := ⟨RX9, "put", "(IJ)V"⟩
def dkwX9_put_0 : List UInt8 := [42, 180, 0, 7, 27, 32, 136, 145, 84, 177]
abbrev dktX9_put_0 : List UInt8 := dkwX9_put_0 ++ []
theorem dksX9_put_0 : cX9_put.data.toList.drop 0 = dktX9_put_0 := by decide +kernel
theorem dX9_put_0 : decode cX9_put 0 = .ok (.aload_n 0, 1) := dk_42 (dk_at dksX9_put_0 0 rfl rfl)
theorem dX9_put_1 : decode cX9_put 1 = .ok (.getfield 7, 3) := dk_180 0 7 (dk_at dksX9_put_0 1 rfl rfl)
theorem dX9_put_4 : decode cX9_put 4 = .ok (.iload_n 1, 1) := dk_27 (dk_at dksX9_put_0 4 rfl rfl)
theorem dX9_put_5 : decode cX9_put 5 = .ok (.lload_n 2, 1) := dk_32 (dk_at dksX9_put_0 5 rfl rfl)
theorem dX9_put_6 : decode cX9_put 6 = .ok (.l2i, 1) := dk_136 (dk_at dksX9_put_0 6 rfl rfl)
theorem dX9_put_7 : decode cX9_put 7 = .ok (.i2b, 1) := dk_145 (dk_at dksX9_put_0 7 rfl rfl)
theorem dX9_put_8 : decode cX9_put 8 = .ok (.bastore, 1) := dk_84 (dk_at dksX9_put_0 8 rfl rfl)
theorem dX9_put_9 : decode cX9_put 9 = .ok (.return_, 1) := dk_177 (dk_at dksX9_put_0 9 rfl rfl)
abbrev cX9_sort : ByteArray := prog_2_method_2_code
def yX9_sort : MethodName := ⟨RX9, "sort", "()I"⟩
theorem dX9_sort_0 : decode cX9_sort 0 = .ok (.iconst 0, 1) := by decide +kernel
theorem dX9_sort_1 : decode cX9_sort 1 = .ok (.ireturn, 1) := by decide +kernel
abbrev cX9_held : ByteArray := prog_2_method_8_code
def yX9_held : MethodName := ⟨RX9, "held", "()Ljava/lang/Object;"⟩
theorem dX9_held_0 : decode cX9_held 0 = .ok (.aload_n 0, 1) := by decide +kernel
theorem dX9_held_1 : decode cX9_held 1 = .ok (.getfield 7, 3) := by decide +kernel
theorem dX9_held_4 : decode cX9_held 4 = .ok (.areturn, 1) := by decide +kernel
abbrev cX9_get : ByteArray := prog_2_method_5_code
def yX9_get : MethodName := ⟨RX9, "get", "(I)J"⟩
def dkwX9_get_0 : List UInt8 := [42, 180, 0, 7, 27, 51, 133, 173]
abbrev dktX9_get_0 : List UInt8 := dkwX9_get_0 ++ []
theorem dksX9_get_0 : cX9_get.data.toList.drop 0 = dktX9_get_0 := by decide +kernel
theorem dX9_get_0 : decode cX9_get 0 = .ok (.aload_n 0, 1) := dk_42 (dk_at dksX9_get_0 0 rfl rfl)
theorem dX9_get_1 : decode cX9_get 1 = .ok (.getfield 7, 3) := dk_180 0 7 (dk_at dksX9_get_0 1 rfl rfl)
theorem dX9_get_4 : decode cX9_get 4 = .ok (.iload_n 1, 1) := dk_27 (dk_at dksX9_get_0 4 rfl rfl)
theorem dX9_get_5 : decode cX9_get 5 = .ok (.baload, 1) := dk_51 (dk_at dksX9_get_0 5 rfl rfl)
theorem dX9_get_6 : decode cX9_get 6 = .ok (.i2l, 1) := dk_133 (dk_at dksX9_get_0 6 rfl rfl)
theorem dX9_get_7 : decode cX9_get 7 = .ok (.lreturn, 1) := dk_173 (dk_at dksX9_get_0 7 rfl rfl)
abbrev cX9_length : ByteArray := prog_2_method_3_code
def yX9_length : MethodName := ⟨RX9, "length", "()I"⟩
def dkwX9_length_0 : List UInt8 := [42, 180, 0, 7, 190, 172]
abbrev dktX9_length_0 : List UInt8 := dkwX9_length_0 ++ []
theorem dksX9_length_0 : cX9_length.data.toList.drop 0 = dktX9_length_0 := by decide +kernel
theorem dX9_length_0 : decode cX9_length 0 = .ok (.aload_n 0, 1) := dk_42 (dk_at dksX9_length_0 0 rfl rfl)
theorem dX9_length_1 : decode cX9_length 1 = .ok (.getfield 7, 3) := dk_180 0 7 (dk_at dksX9_length_0 1 rfl rfl)
theorem dX9_length_4 : decode cX9_length 4 = .ok (.arraylength, 1) := dk_190 (dk_at dksX9_length_0 4 rfl rfl)
theorem dX9_length_5 : decode cX9_length 5 = .ok (.ireturn, 1) := dk_172 (dk_at dksX9_length_0 5 rfl rfl)
theorem q110 : (Jvm.Cond.initialized "InASackToTheRope$Bytes") ∈ lw_all := lw_g (lw_at lw_m1 17 rfl) rfl
theorem q494 : (Jvm.Cond.instantiable "InASackToTheRope$Bytes" (1 : Nat)) ∈ lw_all := lw_g (lw_at lw_m2 161 rfl) rfl
theorem q496 : (Jvm.Cond.instanceMethod ({ cls := "InASackToTheRope$Bytes", name := "<init>", desc := "(I)V" } : Jvm.MethodName)) ∈ lw_all := lw_g (lw_at lw_m2 163 rfl) rfl
theorem q497 : (Jvm.Cond.code ({ cls := "InASackToTheRope$Bytes", name := "<init>", desc := "(I)V" } : Jvm.MethodName) prog_2_method_1_code (2 : Nat) (Option.none : Option Jvm.ClassFile.FieldType)) ∈ lw_all := lw_g (lw_at lw_m2 164 rfl) rfl
theorem q498 : (Jvm.Cond.methodLink "InASackToTheRope$Bytes" (1 : Nat) ({ cls := "InASackToTheRope$Row", name := "<init>", desc := "()V" } : Jvm.MethodName)) ∈ lw_all := lw_g (lw_at lw_m2 165 rfl) rfl
theorem q502 : (Jvm.Cond.fieldLink "InASackToTheRope$Bytes" (7 : Nat) "InASackToTheRope$Bytes" "e" "[B") ∈ lw_all := lw_g (lw_at lw_m2 169 rfl) rfl
theorem q503 : (Jvm.Cond.laysFinal "InASackToTheRope$Bytes" "InASackToTheRope$Bytes" "e" "[B") ∈ lw_all := lw_g (lw_at lw_m2 170 rfl) rfl
theorem q504 : (Jvm.Cond.soleField "InASackToTheRope$Bytes" "e") ∈ lw_all := lw_g (lw_at lw_m2 171 rfl) rfl
theorem q505 : (Jvm.Cond.superclass "InASackToTheRope$Bytes" "InASackToTheRope$Row") ∈ lw_all := lw_g (lw_at lw_m2 172 rfl) rfl
theorem q571 : (Jvm.Cond.selects "InASackToTheRope$Bytes" ({ cls := "InASackToTheRope$Row", name := "put", desc := "(IJ)V" } : Jvm.MethodName) ({ cls := "InASackToTheRope$Bytes", name := "put", desc := "(IJ)V" } : Jvm.MethodName)) ∈ lw_all := lw_g (lw_at lw_m2 238 rfl) rfl
theorem q572 : (Jvm.Cond.instanceMethod ({ cls := "InASackToTheRope$Bytes", name := "put", desc := "(IJ)V" } : Jvm.MethodName)) ∈ lw_all := lw_g (lw_at lw_m2 239 rfl) rfl
theorem q573 : (Jvm.Cond.code ({ cls := "InASackToTheRope$Bytes", name := "put", desc := "(IJ)V" } : Jvm.MethodName) prog_2_method_4_code (4 : Nat) (Option.none : Option Jvm.ClassFile.FieldType)) ∈ lw_all := lw_g (lw_at lw_m3 0 rfl) rfl
theorem q596 : (Jvm.Cond.selects "InASackToTheRope$Bytes" ({ cls := "InASackToTheRope$Row", name := "sort", desc := "()I" } : Jvm.MethodName) ({ cls := "InASackToTheRope$Bytes", name := "sort", desc := "()I" } : Jvm.MethodName)) ∈ lw_all := lw_g (lw_at lw_m3 23 rfl) rfl
theorem q597 : (Jvm.Cond.instanceMethod ({ cls := "InASackToTheRope$Bytes", name := "sort", desc := "()I" } : Jvm.MethodName)) ∈ lw_all := lw_g (lw_at lw_m3 24 rfl) rfl
theorem q598 : (Jvm.Cond.code ({ cls := "InASackToTheRope$Bytes", name := "sort", desc := "()I" } : Jvm.MethodName) prog_2_method_2_code (1 : Nat) (Option.some Jvm.ClassFile.FieldType.int)) ∈ lw_all := lw_g (lw_at lw_m3 25 rfl) rfl
theorem q611 : (Jvm.Cond.selects "InASackToTheRope$Bytes" ({ cls := "InASackToTheRope$Row", name := "held", desc := "()Ljava/lang/Object;" } : Jvm.MethodName) ({ cls := "InASackToTheRope$Bytes", name := "held", desc := "()Ljava/lang/Object;" } : Jvm.MethodName)) ∈ lw_all := lw_g (lw_at lw_m3 38 rfl) rfl
theorem q612 : (Jvm.Cond.instanceMethod ({ cls := "InASackToTheRope$Bytes", name := "held", desc := "()Ljava/lang/Object;" } : Jvm.MethodName)) ∈ lw_all := lw_g (lw_at lw_m3 39 rfl) rfl
theorem q613 : (Jvm.Cond.code ({ cls := "InASackToTheRope$Bytes", name := "held", desc := "()Ljava/lang/Object;" } : Jvm.MethodName) prog_2_method_8_code (1 : Nat) (Option.some (Jvm.ClassFile.FieldType.object "java/lang/Object"))) ∈ lw_all := lw_g (lw_at lw_m3 40 rfl) rfl
theorem q633 : (Jvm.Cond.selects "InASackToTheRope$Bytes" ({ cls := "InASackToTheRope$Row", name := "get", desc := "(I)J" } : Jvm.MethodName) ({ cls := "InASackToTheRope$Bytes", name := "get", desc := "(I)J" } : Jvm.MethodName)) ∈ lw_all := lw_g (lw_at lw_m3 60 rfl) rfl
theorem q634 : (Jvm.Cond.instanceMethod ({ cls := "InASackToTheRope$Bytes", name := "get", desc := "(I)J" } : Jvm.MethodName)) ∈ lw_all := lw_g (lw_at lw_m3 61 rfl) rfl
theorem q635 : (Jvm.Cond.code ({ cls := "InASackToTheRope$Bytes", name := "get", desc := "(I)J" } : Jvm.MethodName) prog_2_method_5_code (2 : Nat) (Option.some Jvm.ClassFile.FieldType.long)) ∈ lw_all := lw_g (lw_at lw_m3 62 rfl) rfl
theorem q992 : (Jvm.Cond.selects "InASackToTheRope$Bytes" ({ cls := "InASackToTheRope$Row", name := "length", desc := "()I" } : Jvm.MethodName) ({ cls := "InASackToTheRope$Bytes", name := "length", desc := "()I" } : Jvm.MethodName)) ∈ lw_all := lw_g (lw_at lw_m4 179 rfl) rfl
theorem q993 : (Jvm.Cond.instanceMethod ({ cls := "InASackToTheRope$Bytes", name := "length", desc := "()I" } : Jvm.MethodName)) ∈ lw_all := lw_g (lw_at lw_m4 180 rfl) rfl
theorem q994 : (Jvm.Cond.code ({ cls := "InASackToTheRope$Bytes", name := "length", desc := "()I" } : Jvm.MethodName) prog_2_method_3_code (1 : Nat) (Option.some Jvm.ClassFile.FieldType.int)) ∈ lw_all := lw_g (lw_at lw_m4 181 rfl) rfl
theorem q1007 : (Jvm.Cond.selects "InASackToTheRope$Bytes" ({ cls := "InASackToTheRope$Row", name := "asInt", desc := "(I)I" } : Jvm.MethodName) ({ cls := "InASackToTheRope$Row", name := "asInt", desc := "(I)I" } : Jvm.MethodName)) ∈ lw_all := lw_g (lw_at lw_m4 194 rfl) rfl
theorem q2046 : (Jvm.Cond.castable "InASackToTheRope$Bytes" "InASackToTheRope$Row") ∈ lw_tbl := lw_at lw_m9 33 rfl
theorem in_X9 : ∀ w ∈ wsX90, w ∈ lw_all := lw_in wsX90 [503] (by decide +kernel) (by decide +kernel)
