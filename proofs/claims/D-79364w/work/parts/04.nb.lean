/-! TermsDesk$Clash -/
set_option maxRecDepth 100000
def RX10 : String := "TermsDesk$Clash"
def TX10 : u_T := fun k => match k with
  | 0 => ("TermsDesk$Clash", "reason", "I", true)
  | 1 => ("TermsDesk$Clash", "first", "I", true)
  | 2 => ("TermsDesk$Clash", "matter", "I", true)
  | _ => ("TermsDesk$Clash", "second", "I", true)
def tyX10 : Nat → FieldType := fun k => match k with
  | 0 => .int
  | 1 => .int
  | 2 => .int
  | _ => .int
abbrev wsX100 : List Cond := u_ws RX10 TX10 4
theorem nmX10 : ∀ a, a < 4 → ∀ b, b < 4 → a ≠ b → (TX10 a).2.1 ≠ (TX10 b).2.1 := by decide +kernel
theorem tyX10_ok : ∀ k, k < 4 → parseFieldDescriptor (TX10 k).2.2.1 = some (tyX10 k) := by decide +kernel
abbrev cX10_init : ByteArray := prog_4_method_1_code
def yX10_init : MethodName := ⟨RX10, "<init>", "(IIII)V"⟩
def dkwX10_init_1 : List UInt8 := [181, 0, 19, 177]
abbrev dktX10_init_1 : List UInt8 := dkwX10_init_1 ++ []
def dkwX10_init_0 : List UInt8 := [42, 183, 0, 1, 42, 27, 181, 0, 7, 42, 28, 181, 0, 13, 42, 29, 181, 0, 16, 42, 21, 4]
abbrev dktX10_init_0 : List UInt8 := dkwX10_init_0 ++ dktX10_init_1
theorem dksX10_init_0 : cX10_init.data.toList.drop 0 = dktX10_init_0 := by decide +kernel
theorem dksX10_init_1 : cX10_init.data.toList.drop 22 = dktX10_init_1 := dk_seg dksX10_init_0 22 rfl rfl
theorem dX10_init_0 : decode cX10_init 0 = .ok (.aload_n 0, 1) := dk_42 (dk_at dksX10_init_0 0 rfl rfl)
theorem dX10_init_1 : decode cX10_init 1 = .ok (.invokespecial 1, 3) := dk_183 0 1 (dk_at dksX10_init_0 1 rfl rfl)
theorem dX10_init_4 : decode cX10_init 4 = .ok (.aload_n 0, 1) := dk_42 (dk_at dksX10_init_0 4 rfl rfl)
theorem dX10_init_5 : decode cX10_init 5 = .ok (.iload_n 1, 1) := dk_27 (dk_at dksX10_init_0 5 rfl rfl)
theorem dX10_init_6 : decode cX10_init 6 = .ok (.putfield 7, 3) := dk_181 0 7 (dk_at dksX10_init_0 6 rfl rfl)
theorem dX10_init_9 : decode cX10_init 9 = .ok (.aload_n 0, 1) := dk_42 (dk_at dksX10_init_0 9 rfl rfl)
theorem dX10_init_10 : decode cX10_init 10 = .ok (.iload_n 2, 1) := dk_28 (dk_at dksX10_init_0 10 rfl rfl)
theorem dX10_init_11 : decode cX10_init 11 = .ok (.putfield 13, 3) := dk_181 0 13 (dk_at dksX10_init_0 11 rfl rfl)
theorem dX10_init_14 : decode cX10_init 14 = .ok (.aload_n 0, 1) := dk_42 (dk_at dksX10_init_0 14 rfl rfl)
theorem dX10_init_15 : decode cX10_init 15 = .ok (.iload_n 3, 1) := dk_29 (dk_at dksX10_init_0 15 rfl rfl)
theorem dX10_init_16 : decode cX10_init 16 = .ok (.putfield 16, 3) := dk_181 0 16 (dk_at dksX10_init_0 16 rfl rfl)
theorem dX10_init_19 : decode cX10_init 19 = .ok (.aload_n 0, 1) := dk_42 (dk_at dksX10_init_0 19 rfl rfl)
theorem dX10_init_20 : decode cX10_init 20 = .ok (.iload 4, 2) := dk_21 4 (dk_at dksX10_init_0 20 rfl rfl)
theorem dX10_init_22 : decode cX10_init 22 = .ok (.putfield 19, 3) := dk_181 0 19 (dk_at dksX10_init_1 0 rfl rfl)
theorem dX10_init_25 : decode cX10_init 25 = .ok (.return_, 1) := dk_177 (dk_at dksX10_init_1 3 rfl rfl)
abbrev cX10_number : ByteArray := prog_4_method_2_code
def yX10_number : MethodName := ⟨RX10, "number", "(I)I"⟩
def dkwX10_number_2 : List UInt8 := [42, 180, 0, 7, 172, 42, 180, 0, 13, 172, 42, 180, 0, 16, 172, 42, 180, 0, 19, 172]
abbrev dktX10_number_2 : List UInt8 := dkwX10_number_2 ++ []
def dkwX10_number_1 : List UInt8 := [170, 0, 0, 0, 0, 0, 42, 0, 0, 0, 0, 0, 0, 0, 2, 0, 0, 0, 27, 0, 0, 0, 32, 0, 0, 0, 37]
abbrev dktX10_number_1 : List UInt8 := dkwX10_number_1 ++ dktX10_number_2
def dkwX10_number_0 : List UInt8 := [27]
abbrev dktX10_number_0 : List UInt8 := dkwX10_number_0 ++ dktX10_number_1
theorem dksX10_number_0 : cX10_number.data.toList.drop 0 = dktX10_number_0 := by decide +kernel
theorem dksX10_number_1 : cX10_number.data.toList.drop 1 = dktX10_number_1 := dk_seg dksX10_number_0 1 rfl rfl
theorem dksX10_number_2 : cX10_number.data.toList.drop 28 = dktX10_number_2 := dk_seg dksX10_number_1 27 rfl rfl
theorem dX10_number_0 : decode cX10_number 0 = .ok (.iload_n 1, 1) := dk_27 (dk_at dksX10_number_0 0 rfl rfl)
theorem dX10_number_1 : decode cX10_number 1 = .ok (.tableswitch 42 0 2 #[27, 32, 37], 27) := by decide +kernel
theorem dX10_number_28 : decode cX10_number 28 = .ok (.aload_n 0, 1) := dk_42 (dk_at dksX10_number_2 0 rfl rfl)
theorem dX10_number_29 : decode cX10_number 29 = .ok (.getfield 7, 3) := dk_180 0 7 (dk_at dksX10_number_2 1 rfl rfl)
theorem dX10_number_32 : decode cX10_number 32 = .ok (.ireturn, 1) := dk_172 (dk_at dksX10_number_2 4 rfl rfl)
theorem dX10_number_33 : decode cX10_number 33 = .ok (.aload_n 0, 1) := dk_42 (dk_at dksX10_number_2 5 rfl rfl)
theorem dX10_number_34 : decode cX10_number 34 = .ok (.getfield 13, 3) := dk_180 0 13 (dk_at dksX10_number_2 6 rfl rfl)
theorem dX10_number_37 : decode cX10_number 37 = .ok (.ireturn, 1) := dk_172 (dk_at dksX10_number_2 9 rfl rfl)
theorem dX10_number_38 : decode cX10_number 38 = .ok (.aload_n 0, 1) := dk_42 (dk_at dksX10_number_2 10 rfl rfl)
theorem dX10_number_39 : decode cX10_number 39 = .ok (.getfield 16, 3) := dk_180 0 16 (dk_at dksX10_number_2 11 rfl rfl)
theorem dX10_number_42 : decode cX10_number 42 = .ok (.ireturn, 1) := dk_172 (dk_at dksX10_number_2 14 rfl rfl)
theorem dX10_number_43 : decode cX10_number 43 = .ok (.aload_n 0, 1) := dk_42 (dk_at dksX10_number_2 15 rfl rfl)
theorem dX10_number_44 : decode cX10_number 44 = .ok (.getfield 19, 3) := dk_180 0 19 (dk_at dksX10_number_2 16 rfl rfl)
theorem dX10_number_47 : decode cX10_number 47 = .ok (.ireturn, 1) := dk_172 (dk_at dksX10_number_2 19 rfl rfl)
abbrev cX10_chain : ByteArray := prog_4_method_3_code
def yX10_chain : MethodName := ⟨RX10, "chain", "()[I"⟩
def dkwX10_chain_3 : List UInt8 := [180, 0, 19, 79, 176]
abbrev dktX10_chain_3 : List UInt8 := dkwX10_chain_3 ++ []
def dkwX10_chain_2 : List UInt8 := [188, 10, 89, 3, 5, 79, 89, 4, 42, 180, 0, 16, 79, 89, 5, 42, 180, 0, 13, 79, 89, 6, 42]
abbrev dktX10_chain_2 : List UInt8 := dkwX10_chain_2 ++ dktX10_chain_3
def dkwX10_chain_1 : List UInt8 := [6, 188, 10, 89, 3, 4, 79, 89, 4, 42, 180, 0, 13, 79, 89, 5, 42, 180, 0, 16, 79, 176, 7]
abbrev dktX10_chain_1 : List UInt8 := dkwX10_chain_1 ++ dktX10_chain_2
def dkwX10_chain_0 : List UInt8 := [42, 180, 0, 7, 171, 0, 0, 0, 0, 0, 0, 42, 0, 0, 0, 1, 0, 0, 0, 1, 0, 0, 0, 20]
abbrev dktX10_chain_0 : List UInt8 := dkwX10_chain_0 ++ dktX10_chain_1
theorem dksX10_chain_0 : cX10_chain.data.toList.drop 0 = dktX10_chain_0 := by decide +kernel
theorem dksX10_chain_1 : cX10_chain.data.toList.drop 24 = dktX10_chain_1 := dk_seg dksX10_chain_0 24 rfl rfl
theorem dksX10_chain_2 : cX10_chain.data.toList.drop 47 = dktX10_chain_2 := dk_seg dksX10_chain_1 23 rfl rfl
theorem dksX10_chain_3 : cX10_chain.data.toList.drop 70 = dktX10_chain_3 := dk_seg dksX10_chain_2 23 rfl rfl
theorem dX10_chain_0 : decode cX10_chain 0 = .ok (.aload_n 0, 1) := dk_42 (dk_at dksX10_chain_0 0 rfl rfl)
theorem dX10_chain_1 : decode cX10_chain 1 = .ok (.getfield 7, 3) := dk_180 0 7 (dk_at dksX10_chain_0 1 rfl rfl)
theorem dX10_chain_4 : decode cX10_chain 4 = .ok (.lookupswitch 42 #[(1, 20)], 20) := by decide +kernel
theorem dX10_chain_24 : decode cX10_chain 24 = .ok (.iconst 3, 1) := dk_6 (dk_at dksX10_chain_1 0 rfl rfl)
theorem dX10_chain_25 : decode cX10_chain 25 = .ok (.newarray .int, 2) := dk_188_10 (dk_at dksX10_chain_1 1 rfl rfl)
theorem dX10_chain_27 : decode cX10_chain 27 = .ok (.dup, 1) := dk_89 (dk_at dksX10_chain_1 3 rfl rfl)
theorem dX10_chain_28 : decode cX10_chain 28 = .ok (.iconst 0, 1) := dk_3 (dk_at dksX10_chain_1 4 rfl rfl)
theorem dX10_chain_29 : decode cX10_chain 29 = .ok (.iconst 1, 1) := dk_4 (dk_at dksX10_chain_1 5 rfl rfl)
theorem dX10_chain_30 : decode cX10_chain 30 = .ok (.iastore, 1) := dk_79 (dk_at dksX10_chain_1 6 rfl rfl)
theorem dX10_chain_31 : decode cX10_chain 31 = .ok (.dup, 1) := dk_89 (dk_at dksX10_chain_1 7 rfl rfl)
theorem dX10_chain_32 : decode cX10_chain 32 = .ok (.iconst 1, 1) := dk_4 (dk_at dksX10_chain_1 8 rfl rfl)
theorem dX10_chain_33 : decode cX10_chain 33 = .ok (.aload_n 0, 1) := dk_42 (dk_at dksX10_chain_1 9 rfl rfl)
theorem dX10_chain_34 : decode cX10_chain 34 = .ok (.getfield 13, 3) := dk_180 0 13 (dk_at dksX10_chain_1 10 rfl rfl)
theorem dX10_chain_37 : decode cX10_chain 37 = .ok (.iastore, 1) := dk_79 (dk_at dksX10_chain_1 13 rfl rfl)
theorem dX10_chain_38 : decode cX10_chain 38 = .ok (.dup, 1) := dk_89 (dk_at dksX10_chain_1 14 rfl rfl)
theorem dX10_chain_39 : decode cX10_chain 39 = .ok (.iconst 2, 1) := dk_5 (dk_at dksX10_chain_1 15 rfl rfl)
theorem dX10_chain_40 : decode cX10_chain 40 = .ok (.aload_n 0, 1) := dk_42 (dk_at dksX10_chain_1 16 rfl rfl)
theorem dX10_chain_41 : decode cX10_chain 41 = .ok (.getfield 16, 3) := dk_180 0 16 (dk_at dksX10_chain_1 17 rfl rfl)
theorem dX10_chain_44 : decode cX10_chain 44 = .ok (.iastore, 1) := dk_79 (dk_at dksX10_chain_1 20 rfl rfl)
theorem dX10_chain_45 : decode cX10_chain 45 = .ok (.areturn, 1) := dk_176 (dk_at dksX10_chain_1 21 rfl rfl)
theorem dX10_chain_46 : decode cX10_chain 46 = .ok (.iconst 4, 1) := dk_7 (dk_at dksX10_chain_1 22 rfl rfl)
theorem dX10_chain_47 : decode cX10_chain 47 = .ok (.newarray .int, 2) := dk_188_10 (dk_at dksX10_chain_2 0 rfl rfl)
theorem dX10_chain_49 : decode cX10_chain 49 = .ok (.dup, 1) := dk_89 (dk_at dksX10_chain_2 2 rfl rfl)
theorem dX10_chain_50 : decode cX10_chain 50 = .ok (.iconst 0, 1) := dk_3 (dk_at dksX10_chain_2 3 rfl rfl)
theorem dX10_chain_51 : decode cX10_chain 51 = .ok (.iconst 2, 1) := dk_5 (dk_at dksX10_chain_2 4 rfl rfl)
theorem dX10_chain_52 : decode cX10_chain 52 = .ok (.iastore, 1) := dk_79 (dk_at dksX10_chain_2 5 rfl rfl)
theorem dX10_chain_53 : decode cX10_chain 53 = .ok (.dup, 1) := dk_89 (dk_at dksX10_chain_2 6 rfl rfl)
theorem dX10_chain_54 : decode cX10_chain 54 = .ok (.iconst 1, 1) := dk_4 (dk_at dksX10_chain_2 7 rfl rfl)
theorem dX10_chain_55 : decode cX10_chain 55 = .ok (.aload_n 0, 1) := dk_42 (dk_at dksX10_chain_2 8 rfl rfl)
theorem dX10_chain_56 : decode cX10_chain 56 = .ok (.getfield 16, 3) := dk_180 0 16 (dk_at dksX10_chain_2 9 rfl rfl)
theorem dX10_chain_59 : decode cX10_chain 59 = .ok (.iastore, 1) := dk_79 (dk_at dksX10_chain_2 12 rfl rfl)
theorem dX10_chain_60 : decode cX10_chain 60 = .ok (.dup, 1) := dk_89 (dk_at dksX10_chain_2 13 rfl rfl)
theorem dX10_chain_61 : decode cX10_chain 61 = .ok (.iconst 2, 1) := dk_5 (dk_at dksX10_chain_2 14 rfl rfl)
theorem dX10_chain_62 : decode cX10_chain 62 = .ok (.aload_n 0, 1) := dk_42 (dk_at dksX10_chain_2 15 rfl rfl)
theorem dX10_chain_63 : decode cX10_chain 63 = .ok (.getfield 13, 3) := dk_180 0 13 (dk_at dksX10_chain_2 16 rfl rfl)
theorem dX10_chain_66 : decode cX10_chain 66 = .ok (.iastore, 1) := dk_79 (dk_at dksX10_chain_2 19 rfl rfl)
theorem dX10_chain_67 : decode cX10_chain 67 = .ok (.dup, 1) := dk_89 (dk_at dksX10_chain_2 20 rfl rfl)
theorem dX10_chain_68 : decode cX10_chain 68 = .ok (.iconst 3, 1) := dk_6 (dk_at dksX10_chain_2 21 rfl rfl)
theorem dX10_chain_69 : decode cX10_chain 69 = .ok (.aload_n 0, 1) := dk_42 (dk_at dksX10_chain_2 22 rfl rfl)
theorem dX10_chain_70 : decode cX10_chain 70 = .ok (.getfield 19, 3) := dk_180 0 19 (dk_at dksX10_chain_3 0 rfl rfl)
theorem dX10_chain_73 : decode cX10_chain 73 = .ok (.iastore, 1) := dk_79 (dk_at dksX10_chain_3 3 rfl rfl)
theorem dX10_chain_74 : decode cX10_chain 74 = .ok (.areturn, 1) := dk_176 (dk_at dksX10_chain_3 4 rfl rfl)
theorem q103 : (Jvm.Cond.initialized "TermsDesk$Clash") ∈ lw_all := lw_g (lw_at lw_m1 35 rfl) rfl
theorem q524 : (Jvm.Cond.instantiable "TermsDesk$Clash" (4 : Nat)) ∈ lw_all := lw_g (lw_at lw_m2 216 rfl) rfl
theorem q526 : (Jvm.Cond.instanceMethod ({ cls := "TermsDesk$Clash", name := "<init>", desc := "(IIII)V" } : Jvm.MethodName)) ∈ lw_all := lw_g (lw_at lw_m2 218 rfl) rfl
theorem q527 : (Jvm.Cond.code ({ cls := "TermsDesk$Clash", name := "<init>", desc := "(IIII)V" } : Jvm.MethodName) prog_4_method_1_code (5 : Nat) (Option.none : Option Jvm.ClassFile.FieldType)) ∈ lw_all := lw_g (lw_at lw_m2 219 rfl) rfl
theorem q528 : (Jvm.Cond.methodLink "TermsDesk$Clash" (1 : Nat) ({ cls := "java/lang/Object", name := "<init>", desc := "()V" } : Jvm.MethodName)) ∈ lw_all := lw_g (lw_at lw_m2 220 rfl) rfl
theorem q529 : (Jvm.Cond.fieldLink "TermsDesk$Clash" (7 : Nat) "TermsDesk$Clash" "reason" "I") ∈ lw_all := lw_g (lw_at lw_m2 221 rfl) rfl
theorem q530 : (Jvm.Cond.fieldLink "TermsDesk$Clash" (13 : Nat) "TermsDesk$Clash" "first" "I") ∈ lw_all := lw_g (lw_at lw_m2 222 rfl) rfl
theorem q531 : (Jvm.Cond.fieldLink "TermsDesk$Clash" (16 : Nat) "TermsDesk$Clash" "matter" "I") ∈ lw_all := lw_g (lw_at lw_m2 223 rfl) rfl
theorem q532 : (Jvm.Cond.fieldLink "TermsDesk$Clash" (19 : Nat) "TermsDesk$Clash" "second" "I") ∈ lw_all := lw_g (lw_at lw_m2 224 rfl) rfl
theorem q533 : (Jvm.Cond.laysFinal "TermsDesk$Clash" "TermsDesk$Clash" "reason" "I") ∈ lw_all := lw_g (lw_at lw_m2 225 rfl) rfl
theorem q534 : (Jvm.Cond.soleField "TermsDesk$Clash" "reason") ∈ lw_all := lw_g (lw_at lw_m2 226 rfl) rfl
theorem q535 : (Jvm.Cond.laysFinal "TermsDesk$Clash" "TermsDesk$Clash" "first" "I") ∈ lw_all := lw_g (lw_at lw_m2 227 rfl) rfl
theorem q536 : (Jvm.Cond.soleField "TermsDesk$Clash" "first") ∈ lw_all := lw_g (lw_at lw_m2 228 rfl) rfl
theorem q537 : (Jvm.Cond.laysFinal "TermsDesk$Clash" "TermsDesk$Clash" "matter" "I") ∈ lw_all := lw_g (lw_at lw_m2 229 rfl) rfl
theorem q538 : (Jvm.Cond.soleField "TermsDesk$Clash" "matter") ∈ lw_all := lw_g (lw_at lw_m2 230 rfl) rfl
theorem q539 : (Jvm.Cond.laysFinal "TermsDesk$Clash" "TermsDesk$Clash" "second" "I") ∈ lw_all := lw_g (lw_at lw_m2 231 rfl) rfl
theorem q540 : (Jvm.Cond.soleField "TermsDesk$Clash" "second") ∈ lw_all := lw_g (lw_at lw_m2 232 rfl) rfl
theorem q541 : (Jvm.Cond.superclass "TermsDesk$Clash" "java/lang/Object") ∈ lw_all := lw_g (lw_at lw_m2 233 rfl) rfl
theorem q735 : (Jvm.Cond.selects "TermsDesk$Clash" ({ cls := "java/lang/Object", name := "getClass", desc := "()Ljava/lang/Class;" } : Jvm.MethodName) ({ cls := "java/lang/Object", name := "getClass", desc := "()Ljava/lang/Class;" } : Jvm.MethodName)) ∈ lw_all := lw_g (lw_at lw_m3 187 rfl) rfl
theorem q1083 : (Jvm.Cond.instanceMethod ({ cls := "TermsDesk$Clash", name := "number", desc := "(I)I" } : Jvm.MethodName)) ∈ lw_all := lw_g (lw_at lw_m5 55 rfl) rfl
theorem q1084 : (Jvm.Cond.selects "TermsDesk$Clash" ({ cls := "TermsDesk$Clash", name := "number", desc := "(I)I" } : Jvm.MethodName) ({ cls := "TermsDesk$Clash", name := "number", desc := "(I)I" } : Jvm.MethodName)) ∈ lw_all := lw_g (lw_at lw_m5 56 rfl) rfl
theorem q1085 : (Jvm.Cond.code ({ cls := "TermsDesk$Clash", name := "number", desc := "(I)I" } : Jvm.MethodName) prog_4_method_2_code (2 : Nat) (Option.some Jvm.ClassFile.FieldType.int)) ∈ lw_all := lw_g (lw_at lw_m5 57 rfl) rfl
theorem q1447 : (Jvm.Cond.instanceMethod ({ cls := "TermsDesk$Clash", name := "chain", desc := "()[I" } : Jvm.MethodName)) ∈ lw_all := lw_g (lw_at lw_m6 179 rfl) rfl
theorem q1448 : (Jvm.Cond.selects "TermsDesk$Clash" ({ cls := "TermsDesk$Clash", name := "chain", desc := "()[I" } : Jvm.MethodName) ({ cls := "TermsDesk$Clash", name := "chain", desc := "()[I" } : Jvm.MethodName)) ∈ lw_all := lw_g (lw_at lw_m6 180 rfl) rfl
theorem q1449 : (Jvm.Cond.code ({ cls := "TermsDesk$Clash", name := "chain", desc := "()[I" } : Jvm.MethodName) prog_4_method_3_code (1 : Nat) (Option.some (Jvm.ClassFile.FieldType.array Jvm.ClassFile.FieldType.int))) ∈ lw_all := lw_g (lw_at lw_m6 181 rfl) rfl
theorem q2499 : (Jvm.Cond.castable "TermsDesk$Clash" "java/lang/Object") ∈ lw_tbl := lw_at lw_m11 31 rfl
theorem in_X10 : ∀ w ∈ wsX100, w ∈ lw_all := lw_in wsX100 [533, 535, 537, 539] (by decide +kernel) (by decide +kernel)
/-! TermsDesk$Best -/
set_option maxRecDepth 100000
def RX11 : String := "TermsDesk$Best"
def TX11 : u_T := fun k => match k with
  | _ => ("TermsDesk$Best", "best", "Ljava/lang/Comparable;", false)
def tyX11 : Nat → FieldType := fun k => match k with
  | _ => .object "java/lang/Comparable"
abbrev wsX110 : List Cond := u_ws RX11 TX11 1
theorem nmX11 : ∀ a, a < 1 → ∀ b, b < 1 → a ≠ b → (TX11 a).2.1 ≠ (TX11 b).2.1 := by decide +kernel
theorem tyX11_ok : ∀ k, k < 1 → parseFieldDescriptor (TX11 k).2.2.1 = some (tyX11 k) := by decide +kernel
abbrev cX11_init : ByteArray := prog_2_method_1_code
def yX11_init : MethodName := ⟨RX11, "<init>", "()V"⟩
theorem dX11_init_0 : decode cX11_init 0 = .ok (.aload_n 0, 1) := by decide +kernel
theorem dX11_init_1 : decode cX11_init 1 = .ok (.invokespecial 1, 3) := by decide +kernel
theorem dX11_init_4 : decode cX11_init 4 = .ok (.return_, 1) := by decide +kernel
abbrev cX11_offer : ByteArray := prog_2_method_2_code
def yX11_offer : MethodName := ⟨RX11, "offer", "(Ljava/lang/Comparable;)V"⟩
def dkwX11_offer_1 : List UInt8 := [181, 0, 7, 177]
abbrev dktX11_offer_1 : List UInt8 := dkwX11_offer_1 ++ []
def dkwX11_offer_0 : List UInt8 := [42, 180, 0, 7, 198, 0, 16, 43, 42, 180, 0, 7, 185, 0, 13, 2, 0, 156, 0, 8, 42, 43]
abbrev dktX11_offer_0 : List UInt8 := dkwX11_offer_0 ++ dktX11_offer_1
theorem dksX11_offer_0 : cX11_offer.data.toList.drop 0 = dktX11_offer_0 := by decide +kernel
theorem dksX11_offer_1 : cX11_offer.data.toList.drop 22 = dktX11_offer_1 := dk_seg dksX11_offer_0 22 rfl rfl
theorem dX11_offer_0 : decode cX11_offer 0 = .ok (.aload_n 0, 1) := dk_42 (dk_at dksX11_offer_0 0 rfl rfl)
theorem dX11_offer_1 : decode cX11_offer 1 = .ok (.getfield 7, 3) := dk_180 0 7 (dk_at dksX11_offer_0 1 rfl rfl)
theorem dX11_offer_4 : decode cX11_offer 4 = .ok (.ifnull 16, 3) := dk_198 0 16 (dk_at dksX11_offer_0 4 rfl rfl)
theorem dX11_offer_7 : decode cX11_offer 7 = .ok (.aload_n 1, 1) := dk_43 (dk_at dksX11_offer_0 7 rfl rfl)
theorem dX11_offer_8 : decode cX11_offer 8 = .ok (.aload_n 0, 1) := dk_42 (dk_at dksX11_offer_0 8 rfl rfl)
theorem dX11_offer_9 : decode cX11_offer 9 = .ok (.getfield 7, 3) := dk_180 0 7 (dk_at dksX11_offer_0 9 rfl rfl)
theorem dX11_offer_12 : decode cX11_offer 12 = .ok (.invokeinterface 13 2, 5) := by decide +kernel
theorem dX11_offer_17 : decode cX11_offer 17 = .ok (.ifCond .ge 8, 3) := dk_156 0 8 (dk_at dksX11_offer_0 17 rfl rfl)
theorem dX11_offer_20 : decode cX11_offer 20 = .ok (.aload_n 0, 1) := dk_42 (dk_at dksX11_offer_0 20 rfl rfl)
theorem dX11_offer_21 : decode cX11_offer 21 = .ok (.aload_n 1, 1) := dk_43 (dk_at dksX11_offer_0 21 rfl rfl)
theorem dX11_offer_22 : decode cX11_offer 22 = .ok (.putfield 7, 3) := dk_181 0 7 (dk_at dksX11_offer_1 0 rfl rfl)
theorem dX11_offer_25 : decode cX11_offer 25 = .ok (.return_, 1) := dk_177 (dk_at dksX11_offer_1 3 rfl rfl)
abbrev cX11_get : ByteArray := prog_2_method_3_code
def yX11_get : MethodName := ⟨RX11, "get", "()Ljava/lang/Comparable;"⟩
def dkwX11_get_0 : List UInt8 := [42, 180, 0, 7, 198, 0, 7, 4, 167, 0, 4, 3, 184, 0, 19, 42, 180, 0, 7, 176]
abbrev dktX11_get_0 : List UInt8 := dkwX11_get_0 ++ []
theorem dksX11_get_0 : cX11_get.data.toList.drop 0 = dktX11_get_0 := by decide +kernel
theorem dX11_get_0 : decode cX11_get 0 = .ok (.aload_n 0, 1) := dk_42 (dk_at dksX11_get_0 0 rfl rfl)
theorem dX11_get_1 : decode cX11_get 1 = .ok (.getfield 7, 3) := dk_180 0 7 (dk_at dksX11_get_0 1 rfl rfl)
theorem dX11_get_4 : decode cX11_get 4 = .ok (.ifnull 7, 3) := dk_198 0 7 (dk_at dksX11_get_0 4 rfl rfl)
theorem dX11_get_7 : decode cX11_get 7 = .ok (.iconst 1, 1) := dk_4 (dk_at dksX11_get_0 7 rfl rfl)
theorem dX11_get_8 : decode cX11_get 8 = .ok (.goto 4, 3) := dk_167 0 4 (dk_at dksX11_get_0 8 rfl rfl)
theorem dX11_get_11 : decode cX11_get 11 = .ok (.iconst 0, 1) := dk_3 (dk_at dksX11_get_0 11 rfl rfl)
theorem dX11_get_12 : decode cX11_get 12 = .ok (.invokestatic 19, 3) := dk_184 0 19 (dk_at dksX11_get_0 12 rfl rfl)
theorem dX11_get_15 : decode cX11_get 15 = .ok (.aload_n 0, 1) := dk_42 (dk_at dksX11_get_0 15 rfl rfl)
theorem dX11_get_16 : decode cX11_get 16 = .ok (.getfield 7, 3) := dk_180 0 7 (dk_at dksX11_get_0 16 rfl rfl)
theorem dX11_get_19 : decode cX11_get 19 = .ok (.areturn, 1) := dk_176 (dk_at dksX11_get_0 19 rfl rfl)
theorem q104 : (Jvm.Cond.initialized "TermsDesk$Best") ∈ lw_all := lw_g (lw_at lw_m1 36 rfl) rfl
theorem q733 : (Jvm.Cond.selects "TermsDesk$Best" ({ cls := "java/lang/Object", name := "getClass", desc := "()Ljava/lang/Class;" } : Jvm.MethodName) ({ cls := "java/lang/Object", name := "getClass", desc := "()Ljava/lang/Class;" } : Jvm.MethodName)) ∈ lw_all := lw_g (lw_at lw_m3 185 rfl) rfl
theorem q1134 : (Jvm.Cond.instantiable "TermsDesk$Best" (1 : Nat)) ∈ lw_all := lw_g (lw_at lw_m5 106 rfl) rfl
theorem q1136 : (Jvm.Cond.instanceMethod ({ cls := "TermsDesk$Best", name := "<init>", desc := "()V" } : Jvm.MethodName)) ∈ lw_all := lw_g (lw_at lw_m5 108 rfl) rfl
theorem q1137 : (Jvm.Cond.code ({ cls := "TermsDesk$Best", name := "<init>", desc := "()V" } : Jvm.MethodName) prog_2_method_1_code (1 : Nat) (Option.none : Option Jvm.ClassFile.FieldType)) ∈ lw_all := lw_g (lw_at lw_m5 109 rfl) rfl
theorem q1138 : (Jvm.Cond.methodLink "TermsDesk$Best" (1 : Nat) ({ cls := "java/lang/Object", name := "<init>", desc := "()V" } : Jvm.MethodName)) ∈ lw_all := lw_g (lw_at lw_m5 110 rfl) rfl
theorem q1139 : (Jvm.Cond.fieldLink "TermsDesk$Best" (7 : Nat) "TermsDesk$Best" "best" "Ljava/lang/Comparable;") ∈ lw_all := lw_g (lw_at lw_m5 111 rfl) rfl
theorem q1140 : (Jvm.Cond.lays "TermsDesk$Best" "TermsDesk$Best" "best" "Ljava/lang/Comparable;") ∈ lw_all := lw_g (lw_at lw_m5 112 rfl) rfl
theorem q1141 : (Jvm.Cond.soleField "TermsDesk$Best" "best") ∈ lw_all := lw_g (lw_at lw_m5 113 rfl) rfl
theorem q1142 : (Jvm.Cond.superclass "TermsDesk$Best" "java/lang/Object") ∈ lw_all := lw_g (lw_at lw_m5 114 rfl) rfl
theorem q1169 : (Jvm.Cond.instanceMethod ({ cls := "TermsDesk$Best", name := "offer", desc := "(Ljava/lang/Comparable;)V" } : Jvm.MethodName)) ∈ lw_all := lw_g (lw_at lw_m5 141 rfl) rfl
theorem q1170 : (Jvm.Cond.selects "TermsDesk$Best" ({ cls := "TermsDesk$Best", name := "offer", desc := "(Ljava/lang/Comparable;)V" } : Jvm.MethodName) ({ cls := "TermsDesk$Best", name := "offer", desc := "(Ljava/lang/Comparable;)V" } : Jvm.MethodName)) ∈ lw_all := lw_g (lw_at lw_m5 142 rfl) rfl
theorem q1171 : (Jvm.Cond.code ({ cls := "TermsDesk$Best", name := "offer", desc := "(Ljava/lang/Comparable;)V" } : Jvm.MethodName) prog_2_method_2_code (2 : Nat) (Option.none : Option Jvm.ClassFile.FieldType)) ∈ lw_all := lw_g (lw_at lw_m5 143 rfl) rfl
theorem q1172 : (Jvm.Cond.interfaceEntry "TermsDesk$Best" (13 : Nat)) ∈ lw_tbl := lw_at lw_m5 144 rfl
theorem q1173 : (Jvm.Cond.methodLink "TermsDesk$Best" (13 : Nat) ({ cls := "java/lang/Comparable", name := "compareTo", desc := "(Ljava/lang/Object;)I" } : Jvm.MethodName)) ∈ lw_all := lw_g (lw_at lw_m5 145 rfl) rfl
theorem q1397 : (Jvm.Cond.instanceMethod ({ cls := "TermsDesk$Best", name := "get", desc := "()Ljava/lang/Comparable;" } : Jvm.MethodName)) ∈ lw_all := lw_g (lw_at lw_m6 129 rfl) rfl
theorem q1398 : (Jvm.Cond.selects "TermsDesk$Best" ({ cls := "TermsDesk$Best", name := "get", desc := "()Ljava/lang/Comparable;" } : Jvm.MethodName) ({ cls := "TermsDesk$Best", name := "get", desc := "()Ljava/lang/Comparable;" } : Jvm.MethodName)) ∈ lw_all := lw_g (lw_at lw_m6 130 rfl) rfl
theorem q1399 : (Jvm.Cond.code ({ cls := "TermsDesk$Best", name := "get", desc := "()Ljava/lang/Comparable;" } : Jvm.MethodName) prog_2_method_3_code (1 : Nat) (Option.some (Jvm.ClassFile.FieldType.object "java/lang/Comparable"))) ∈ lw_all := lw_g (lw_at lw_m6 131 rfl) rfl
theorem q1400 : (Jvm.Cond.methodLinkNest "TermsDesk$Best" (19 : Nat) ({ cls := "TermsDesk", name := "checkElement", desc := "(Z)V" } : Jvm.MethodName) "TermsDesk") ∈ lw_tbl := lw_at lw_m6 132 rfl
theorem q2500 : (Jvm.Cond.castable "TermsDesk$Best" "java/lang/Object") ∈ lw_tbl := lw_at lw_m11 32 rfl
theorem in_X11 : ∀ w ∈ wsX110, w ∈ lw_all := lw_in wsX110 [1140] (by decide +kernel) (by decide +kernel)
/-! TermsDesk$Choice -/
set_option maxRecDepth 100000
def RX12 : String := "TermsDesk$Choice"
def TX12 : u_T := fun k => match k with
  | 0 => ("TermsDesk$Choice", "set", "I", true)
  | _ => ("TermsDesk$Choice", "clashes", "I", true)
def tyX12 : Nat → FieldType := fun k => match k with
  | 0 => .int
  | _ => .int
abbrev wsX120 : List Cond := u_ws RX12 TX12 2
theorem nmX12 : ∀ a, a < 2 → ∀ b, b < 2 → a ≠ b → (TX12 a).2.1 ≠ (TX12 b).2.1 := by decide +kernel
theorem tyX12_ok : ∀ k, k < 2 → parseFieldDescriptor (TX12 k).2.2.1 = some (tyX12 k) := by decide +kernel
abbrev cX12_init : ByteArray := prog_3_method_1_code
def yX12_init : MethodName := ⟨RX12, "<init>", "(II)V"⟩
def dkwX12_init_0 : List UInt8 := [42, 183, 0, 1, 42, 27, 181, 0, 7, 42, 28, 181, 0, 13, 177]
abbrev dktX12_init_0 : List UInt8 := dkwX12_init_0 ++ []
theorem dksX12_init_0 : cX12_init.data.toList.drop 0 = dktX12_init_0 := by decide +kernel
theorem dX12_init_0 : decode cX12_init 0 = .ok (.aload_n 0, 1) := dk_42 (dk_at dksX12_init_0 0 rfl rfl)
theorem dX12_init_1 : decode cX12_init 1 = .ok (.invokespecial 1, 3) := dk_183 0 1 (dk_at dksX12_init_0 1 rfl rfl)
theorem dX12_init_4 : decode cX12_init 4 = .ok (.aload_n 0, 1) := dk_42 (dk_at dksX12_init_0 4 rfl rfl)
theorem dX12_init_5 : decode cX12_init 5 = .ok (.iload_n 1, 1) := dk_27 (dk_at dksX12_init_0 5 rfl rfl)
theorem dX12_init_6 : decode cX12_init 6 = .ok (.putfield 7, 3) := dk_181 0 7 (dk_at dksX12_init_0 6 rfl rfl)
theorem dX12_init_9 : decode cX12_init 9 = .ok (.aload_n 0, 1) := dk_42 (dk_at dksX12_init_0 9 rfl rfl)
theorem dX12_init_10 : decode cX12_init 10 = .ok (.iload_n 2, 1) := dk_28 (dk_at dksX12_init_0 10 rfl rfl)
theorem dX12_init_11 : decode cX12_init 11 = .ok (.putfield 13, 3) := dk_181 0 13 (dk_at dksX12_init_0 11 rfl rfl)
theorem dX12_init_14 : decode cX12_init 14 = .ok (.return_, 1) := dk_177 (dk_at dksX12_init_0 14 rfl rfl)
abbrev cX12_compareTo : ByteArray := prog_3_method_3_code
def yX12_compareTo : MethodName := ⟨RX12, "compareTo", "(Ljava/lang/Object;)I"⟩
def dkwX12_compareTo_0 : List UInt8 := [42, 43, 192, 0, 8, 182, 0, 22, 172]
abbrev dktX12_compareTo_0 : List UInt8 := dkwX12_compareTo_0 ++ []
theorem dksX12_compareTo_0 : cX12_compareTo.data.toList.drop 0 = dktX12_compareTo_0 := by decide +kernel
theorem dX12_compareTo_0 : decode cX12_compareTo 0 = .ok (.aload_n 0, 1) := dk_42 (dk_at dksX12_compareTo_0 0 rfl rfl)
theorem dX12_compareTo_1 : decode cX12_compareTo 1 = .ok (.aload_n 1, 1) := dk_43 (dk_at dksX12_compareTo_0 1 rfl rfl)
theorem dX12_compareTo_2 : decode cX12_compareTo 2 = .ok (.checkcast 8, 3) := dk_192 0 8 (dk_at dksX12_compareTo_0 2 rfl rfl)
theorem dX12_compareTo_5 : decode cX12_compareTo 5 = .ok (.invokevirtual 22, 3) := dk_182 0 22 (dk_at dksX12_compareTo_0 5 rfl rfl)
theorem dX12_compareTo_8 : decode cX12_compareTo 8 = .ok (.ireturn, 1) := dk_172 (dk_at dksX12_compareTo_0 8 rfl rfl)
abbrev cX12_compareTo_2 : ByteArray := prog_3_method_2_code
def yX12_compareTo_2 : MethodName := ⟨RX12, "compareTo", "(LTermsDesk$Choice;)I"⟩
def dkwX12_compareTo_2_1 : List UInt8 := [180, 0, 7, 43, 180, 0, 7, 184, 0, 16, 172]
abbrev dktX12_compareTo_2_1 : List UInt8 := dkwX12_compareTo_2_1 ++ []
def dkwX12_compareTo_2_0 : List UInt8 := [42, 180, 0, 13, 43, 180, 0, 13, 159, 0, 15, 42, 180, 0, 13, 43, 180, 0, 13, 100, 167, 0, 14, 42]
abbrev dktX12_compareTo_2_0 : List UInt8 := dkwX12_compareTo_2_0 ++ dktX12_compareTo_2_1
theorem dksX12_compareTo_2_0 : cX12_compareTo_2.data.toList.drop 0 = dktX12_compareTo_2_0 := by decide +kernel
theorem dksX12_compareTo_2_1 : cX12_compareTo_2.data.toList.drop 24 = dktX12_compareTo_2_1 := dk_seg dksX12_compareTo_2_0 24 rfl rfl
theorem dX12_compareTo_2_0 : decode cX12_compareTo_2 0 = .ok (.aload_n 0, 1) := dk_42 (dk_at dksX12_compareTo_2_0 0 rfl rfl)
theorem dX12_compareTo_2_1 : decode cX12_compareTo_2 1 = .ok (.getfield 13, 3) := dk_180 0 13 (dk_at dksX12_compareTo_2_0 1 rfl rfl)
theorem dX12_compareTo_2_4 : decode cX12_compareTo_2 4 = .ok (.aload_n 1, 1) := dk_43 (dk_at dksX12_compareTo_2_0 4 rfl rfl)
theorem dX12_compareTo_2_5 : decode cX12_compareTo_2 5 = .ok (.getfield 13, 3) := dk_180 0 13 (dk_at dksX12_compareTo_2_0 5 rfl rfl)
theorem dX12_compareTo_2_8 : decode cX12_compareTo_2 8 = .ok (.if_icmp .eq 15, 3) := dk_159 0 15 (dk_at dksX12_compareTo_2_0 8 rfl rfl)
theorem dX12_compareTo_2_11 : decode cX12_compareTo_2 11 = .ok (.aload_n 0, 1) := dk_42 (dk_at dksX12_compareTo_2_0 11 rfl rfl)
theorem dX12_compareTo_2_12 : decode cX12_compareTo_2 12 = .ok (.getfield 13, 3) := dk_180 0 13 (dk_at dksX12_compareTo_2_0 12 rfl rfl)
theorem dX12_compareTo_2_15 : decode cX12_compareTo_2 15 = .ok (.aload_n 1, 1) := dk_43 (dk_at dksX12_compareTo_2_0 15 rfl rfl)
theorem dX12_compareTo_2_16 : decode cX12_compareTo_2 16 = .ok (.getfield 13, 3) := dk_180 0 13 (dk_at dksX12_compareTo_2_0 16 rfl rfl)
theorem dX12_compareTo_2_19 : decode cX12_compareTo_2 19 = .ok (.isub, 1) := dk_100 (dk_at dksX12_compareTo_2_0 19 rfl rfl)
theorem dX12_compareTo_2_20 : decode cX12_compareTo_2 20 = .ok (.goto 14, 3) := dk_167 0 14 (dk_at dksX12_compareTo_2_0 20 rfl rfl)
theorem dX12_compareTo_2_23 : decode cX12_compareTo_2 23 = .ok (.aload_n 0, 1) := dk_42 (dk_at dksX12_compareTo_2_0 23 rfl rfl)
theorem dX12_compareTo_2_24 : decode cX12_compareTo_2 24 = .ok (.getfield 7, 3) := dk_180 0 7 (dk_at dksX12_compareTo_2_1 0 rfl rfl)
theorem dX12_compareTo_2_27 : decode cX12_compareTo_2 27 = .ok (.aload_n 1, 1) := dk_43 (dk_at dksX12_compareTo_2_1 3 rfl rfl)
theorem dX12_compareTo_2_28 : decode cX12_compareTo_2 28 = .ok (.getfield 7, 3) := dk_180 0 7 (dk_at dksX12_compareTo_2_1 4 rfl rfl)
theorem dX12_compareTo_2_31 : decode cX12_compareTo_2 31 = .ok (.invokestatic 16, 3) := dk_184 0 16 (dk_at dksX12_compareTo_2_1 7 rfl rfl)
theorem dX12_compareTo_2_34 : decode cX12_compareTo_2 34 = .ok (.ireturn, 1) := dk_172 (dk_at dksX12_compareTo_2_1 10 rfl rfl)
theorem q105 : (Jvm.Cond.initialized "TermsDesk$Choice") ∈ lw_all := lw_g (lw_at lw_m1 37 rfl) rfl
theorem q734 : (Jvm.Cond.selects "TermsDesk$Choice" ({ cls := "java/lang/Object", name := "getClass", desc := "()Ljava/lang/Class;" } : Jvm.MethodName) ({ cls := "java/lang/Object", name := "getClass", desc := "()Ljava/lang/Class;" } : Jvm.MethodName)) ∈ lw_all := lw_g (lw_at lw_m3 186 rfl) rfl
theorem q1152 : (Jvm.Cond.instantiable "TermsDesk$Choice" (2 : Nat)) ∈ lw_all := lw_g (lw_at lw_m5 124 rfl) rfl
theorem q1155 : (Jvm.Cond.instanceMethod ({ cls := "TermsDesk$Choice", name := "<init>", desc := "(II)V" } : Jvm.MethodName)) ∈ lw_all := lw_g (lw_at lw_m5 127 rfl) rfl
theorem q1156 : (Jvm.Cond.code ({ cls := "TermsDesk$Choice", name := "<init>", desc := "(II)V" } : Jvm.MethodName) prog_3_method_1_code (3 : Nat) (Option.none : Option Jvm.ClassFile.FieldType)) ∈ lw_all := lw_g (lw_at lw_m5 128 rfl) rfl
theorem q1157 : (Jvm.Cond.methodLink "TermsDesk$Choice" (1 : Nat) ({ cls := "java/lang/Object", name := "<init>", desc := "()V" } : Jvm.MethodName)) ∈ lw_all := lw_g (lw_at lw_m5 129 rfl) rfl
theorem q1158 : (Jvm.Cond.fieldLink "TermsDesk$Choice" (7 : Nat) "TermsDesk$Choice" "set" "I") ∈ lw_all := lw_g (lw_at lw_m5 130 rfl) rfl
theorem q1161 : (Jvm.Cond.fieldLink "TermsDesk$Choice" (13 : Nat) "TermsDesk$Choice" "clashes" "I") ∈ lw_all := lw_g (lw_at lw_m5 133 rfl) rfl
theorem q1163 : (Jvm.Cond.laysFinal "TermsDesk$Choice" "TermsDesk$Choice" "set" "I") ∈ lw_all := lw_g (lw_at lw_m5 135 rfl) rfl
theorem q1164 : (Jvm.Cond.soleField "TermsDesk$Choice" "set") ∈ lw_all := lw_g (lw_at lw_m5 136 rfl) rfl
theorem q1165 : (Jvm.Cond.laysFinal "TermsDesk$Choice" "TermsDesk$Choice" "clashes" "I") ∈ lw_all := lw_g (lw_at lw_m5 137 rfl) rfl
theorem q1166 : (Jvm.Cond.soleField "TermsDesk$Choice" "clashes") ∈ lw_all := lw_g (lw_at lw_m5 138 rfl) rfl
theorem q1167 : (Jvm.Cond.superclass "TermsDesk$Choice" "java/lang/Object") ∈ lw_all := lw_g (lw_at lw_m5 139 rfl) rfl
theorem q1176 : (Jvm.Cond.castable "TermsDesk$Choice" "java/lang/Comparable") ∈ lw_tbl := lw_at lw_m5 148 rfl
theorem q1177 : (Jvm.Cond.selects "TermsDesk$Choice" ({ cls := "java/lang/Comparable", name := "compareTo", desc := "(Ljava/lang/Object;)I" } : Jvm.MethodName) ({ cls := "TermsDesk$Choice", name := "compareTo", desc := "(Ljava/lang/Object;)I" } : Jvm.MethodName)) ∈ lw_all := lw_g (lw_at lw_m5 149 rfl) rfl
theorem q1178 : (Jvm.Cond.unhidden "TermsDesk$Choice" "compareTo" "(Ljava/lang/Object;)I") ∈ lw_tbl := lw_at lw_m5 150 rfl
theorem q1179 : (Jvm.Cond.instanceMethod ({ cls := "TermsDesk$Choice", name := "compareTo", desc := "(Ljava/lang/Object;)I" } : Jvm.MethodName)) ∈ lw_all := lw_g (lw_at lw_m5 151 rfl) rfl
theorem q1180 : (Jvm.Cond.publicMethod ({ cls := "TermsDesk$Choice", name := "compareTo", desc := "(Ljava/lang/Object;)I" } : Jvm.MethodName)) ∈ lw_tbl := lw_at lw_m5 152 rfl
theorem q1181 : (Jvm.Cond.code ({ cls := "TermsDesk$Choice", name := "compareTo", desc := "(Ljava/lang/Object;)I" } : Jvm.MethodName) prog_3_method_3_code (2 : Nat) (Option.some Jvm.ClassFile.FieldType.int)) ∈ lw_all := lw_g (lw_at lw_m5 153 rfl) rfl
theorem q1182 : (Jvm.Cond.classLink "TermsDesk$Choice" (8 : Nat) "TermsDesk$Choice") ∈ lw_all := lw_g (lw_at lw_m5 154 rfl) rfl
theorem q1183 : (Jvm.Cond.methodLink "TermsDesk$Choice" (22 : Nat) ({ cls := "TermsDesk$Choice", name := "compareTo", desc := "(LTermsDesk$Choice;)I" } : Jvm.MethodName)) ∈ lw_all := lw_g (lw_at lw_m5 155 rfl) rfl
theorem q1184 : (Jvm.Cond.instanceMethod ({ cls := "TermsDesk$Choice", name := "compareTo", desc := "(LTermsDesk$Choice;)I" } : Jvm.MethodName)) ∈ lw_all := lw_g (lw_at lw_m5 156 rfl) rfl
theorem q1185 : (Jvm.Cond.selects "TermsDesk$Choice" ({ cls := "TermsDesk$Choice", name := "compareTo", desc := "(LTermsDesk$Choice;)I" } : Jvm.MethodName) ({ cls := "TermsDesk$Choice", name := "compareTo", desc := "(LTermsDesk$Choice;)I" } : Jvm.MethodName)) ∈ lw_all := lw_g (lw_at lw_m5 157 rfl) rfl
theorem q1186 : (Jvm.Cond.code ({ cls := "TermsDesk$Choice", name := "compareTo", desc := "(LTermsDesk$Choice;)I" } : Jvm.MethodName) prog_3_method_2_code (2 : Nat) (Option.some Jvm.ClassFile.FieldType.int)) ∈ lw_all := lw_g (lw_at lw_m5 158 rfl) rfl
theorem q1187 : (Jvm.Cond.methodLink "TermsDesk$Choice" (16 : Nat) ({ cls := "java/lang/Integer", name := "compare", desc := "(II)I" } : Jvm.MethodName)) ∈ lw_all := lw_g (lw_at lw_m5 159 rfl) rfl
theorem q2501 : (Jvm.Cond.castable "TermsDesk$Choice" "java/lang/Object") ∈ lw_tbl := lw_at lw_m11 33 rfl
theorem in_X12 : ∀ w ∈ wsX120, w ∈ lw_all := lw_in wsX120 [1163, 1165] (by decide +kernel) (by decide +kernel)
/-! TermsDesk$Refused -/
set_option maxRecDepth 100000
def RX13 : String := "TermsDesk$Refused"
def TX13 : u_T := fun k => match k with
  | 0 => ("java/lang/Throwable", "cause", "Ljava/lang/Throwable;", false)
  | 1 => ("java/lang/Throwable", "stackTrace", "[Ljava/lang/StackTraceElement;", false)
  | 2 => ("java/lang/Throwable", "suppressedExceptions", "Ljava/util/List;", false)
  | 3 => ("java/lang/Throwable", "detailMessage", "Ljava/lang/String;", false)
  | 4 => ("java/lang/Throwable", "backtrace", "Ljava/lang/Object;", false)
  | 5 => ("java/lang/Throwable", "depth", "I", false)
  | _ => ("TermsDesk$Refused", "chain", "[I", true)
def tyX13 : Nat → FieldType := fun k => match k with
  | 0 => .object "java/lang/Throwable"
  | 1 => .array (.object "java/lang/StackTraceElement")
  | 2 => .object "java/util/List"
  | 3 => .object "java/lang/String"
  | 4 => .object "java/lang/Object"
  | 5 => .int
  | _ => .array .int
abbrev wsX130 : List Cond := u_ws RX13 TX13 7
theorem nmX13 : ∀ a, a < 7 → ∀ b, b < 7 → a ≠ b → (TX13 a).2.1 ≠ (TX13 b).2.1 := by decide +kernel
theorem tyX13_ok : ∀ k, k < 7 → parseFieldDescriptor (TX13 k).2.2.1 = some (tyX13 k) := by decide +kernel
abbrev cX13_init : ByteArray := prog_10_method_1_code
def yX13_init : MethodName := ⟨RX13, "<init>", "(LTermsDesk$Clash;)V"⟩
def dkwX13_init_0 : List UInt8 := [42, 1, 1, 3, 3, 183, 0, 1, 42, 43, 182, 0, 7, 181, 0, 13, 177]
abbrev dktX13_init_0 : List UInt8 := dkwX13_init_0 ++ []
theorem dksX13_init_0 : cX13_init.data.toList.drop 0 = dktX13_init_0 := by decide +kernel
theorem dX13_init_0 : decode cX13_init 0 = .ok (.aload_n 0, 1) := dk_42 (dk_at dksX13_init_0 0 rfl rfl)
theorem dX13_init_1 : decode cX13_init 1 = .ok (.aconst_null, 1) := dk_1 (dk_at dksX13_init_0 1 rfl rfl)
theorem dX13_init_2 : decode cX13_init 2 = .ok (.aconst_null, 1) := dk_1 (dk_at dksX13_init_0 2 rfl rfl)
theorem dX13_init_3 : decode cX13_init 3 = .ok (.iconst 0, 1) := dk_3 (dk_at dksX13_init_0 3 rfl rfl)
theorem dX13_init_4 : decode cX13_init 4 = .ok (.iconst 0, 1) := dk_3 (dk_at dksX13_init_0 4 rfl rfl)
theorem dX13_init_5 : decode cX13_init 5 = .ok (.invokespecial 1, 3) := dk_183 0 1 (dk_at dksX13_init_0 5 rfl rfl)
theorem dX13_init_8 : decode cX13_init 8 = .ok (.aload_n 0, 1) := dk_42 (dk_at dksX13_init_0 8 rfl rfl)
theorem dX13_init_9 : decode cX13_init 9 = .ok (.aload_n 1, 1) := dk_43 (dk_at dksX13_init_0 9 rfl rfl)
theorem dX13_init_10 : decode cX13_init 10 = .ok (.invokevirtual 7, 3) := dk_182 0 7 (dk_at dksX13_init_0 10 rfl rfl)
theorem dX13_init_13 : decode cX13_init 13 = .ok (.putfield 13, 3) := dk_181 0 13 (dk_at dksX13_init_0 13 rfl rfl)
theorem dX13_init_16 : decode cX13_init 16 = .ok (.return_, 1) := dk_177 (dk_at dksX13_init_0 16 rfl rfl)
theorem q110 : (Jvm.Cond.initialized "TermsDesk$Refused") ∈ lw_all := lw_g (lw_at lw_m1 42 rfl) rfl
theorem q347 : (Jvm.Cond.selects "TermsDesk$Refused" ({ cls := "java/lang/Throwable", name := "fillInStackTrace", desc := "()Ljava/lang/Throwable;" } : Jvm.MethodName) ({ cls := "java/lang/Throwable", name := "fillInStackTrace", desc := "()Ljava/lang/Throwable;" } : Jvm.MethodName)) ∈ lw_all := lw_g (lw_at lw_m2 39 rfl) rfl
theorem q741 : (Jvm.Cond.selects "TermsDesk$Refused" ({ cls := "java/lang/Object", name := "getClass", desc := "()Ljava/lang/Class;" } : Jvm.MethodName) ({ cls := "java/lang/Object", name := "getClass", desc := "()Ljava/lang/Class;" } : Jvm.MethodName)) ∈ lw_all := lw_g (lw_at lw_m3 193 rfl) rfl
theorem q1428 : (Jvm.Cond.instantiable "TermsDesk$Refused" (7 : Nat)) ∈ lw_all := lw_g (lw_at lw_m6 160 rfl) rfl
theorem q1429 : (Jvm.Cond.castable "TermsDesk$Refused" "TermsDesk$Refused") ∈ lw_tbl := lw_at lw_m6 161 rfl
theorem q1430 : (Jvm.Cond.selects "TermsDesk$Refused" ({ cls := "java/lang/Throwable", name := "fillInStackTrace", desc := "(I)Ljava/lang/Throwable;" } : Jvm.MethodName) ({ cls := "java/lang/Throwable", name := "fillInStackTrace", desc := "(I)Ljava/lang/Throwable;" } : Jvm.MethodName)) ∈ lw_all := lw_g (lw_at lw_m6 162 rfl) rfl
theorem q1431 : (Jvm.Cond.lays "TermsDesk$Refused" "java/lang/Throwable" "cause" "Ljava/lang/Throwable;") ∈ lw_all := lw_g (lw_at lw_m6 163 rfl) rfl
theorem q1432 : (Jvm.Cond.lays "TermsDesk$Refused" "java/lang/Throwable" "stackTrace" "[Ljava/lang/StackTraceElement;") ∈ lw_all := lw_g (lw_at lw_m6 164 rfl) rfl
theorem q1433 : (Jvm.Cond.lays "TermsDesk$Refused" "java/lang/Throwable" "suppressedExceptions" "Ljava/util/List;") ∈ lw_all := lw_g (lw_at lw_m6 165 rfl) rfl
theorem q1434 : (Jvm.Cond.lays "TermsDesk$Refused" "java/lang/Throwable" "detailMessage" "Ljava/lang/String;") ∈ lw_all := lw_g (lw_at lw_m6 166 rfl) rfl
theorem q1435 : (Jvm.Cond.lays "TermsDesk$Refused" "java/lang/Throwable" "backtrace" "Ljava/lang/Object;") ∈ lw_all := lw_g (lw_at lw_m6 167 rfl) rfl
theorem q1438 : (Jvm.Cond.instanceMethod ({ cls := "TermsDesk$Refused", name := "<init>", desc := "(LTermsDesk$Clash;)V" } : Jvm.MethodName)) ∈ lw_all := lw_g (lw_at lw_m6 170 rfl) rfl
theorem q1439 : (Jvm.Cond.code ({ cls := "TermsDesk$Refused", name := "<init>", desc := "(LTermsDesk$Clash;)V" } : Jvm.MethodName) prog_10_method_1_code (2 : Nat) (Option.none : Option Jvm.ClassFile.FieldType)) ∈ lw_all := lw_g (lw_at lw_m6 171 rfl) rfl
theorem q1440 : (Jvm.Cond.methodLink "TermsDesk$Refused" (1 : Nat) ({ cls := "java/lang/Exception", name := "<init>", desc := "(Ljava/lang/String;Ljava/lang/Throwable;ZZ)V" } : Jvm.MethodName)) ∈ lw_all := lw_g (lw_at lw_m6 172 rfl) rfl
theorem q1446 : (Jvm.Cond.methodLink "TermsDesk$Refused" (7 : Nat) ({ cls := "TermsDesk$Clash", name := "chain", desc := "()[I" } : Jvm.MethodName)) ∈ lw_all := lw_g (lw_at lw_m6 178 rfl) rfl
theorem q1450 : (Jvm.Cond.fieldLink "TermsDesk$Refused" (13 : Nat) "TermsDesk$Refused" "chain" "[I") ∈ lw_all := lw_g (lw_at lw_m6 182 rfl) rfl
theorem q1452 : (Jvm.Cond.laysFinal "TermsDesk$Refused" "TermsDesk$Refused" "chain" "[I") ∈ lw_all := lw_g (lw_at lw_m6 184 rfl) rfl
theorem q1453 : (Jvm.Cond.soleField "TermsDesk$Refused" "chain") ∈ lw_all := lw_g (lw_at lw_m6 185 rfl) rfl
theorem q1454 : (Jvm.Cond.lays "TermsDesk$Refused" "java/lang/Throwable" "depth" "I") ∈ lw_all := lw_g (lw_at lw_m6 186 rfl) rfl
theorem q1455 : (Jvm.Cond.superclass "TermsDesk$Refused" "java/lang/Exception") ∈ lw_all := lw_g (lw_at lw_m6 187 rfl) rfl
theorem q2503 : (Jvm.Cond.castable "TermsDesk$Refused" "java/lang/Object") ∈ lw_tbl := lw_at lw_m11 35 rfl
theorem in_X13 : ∀ w ∈ wsX130, w ∈ lw_all := lw_in wsX130 [1431, 1432, 1433, 1434, 1435, 1454, 1452] (by decide +kernel) (by decide +kernel)
/-! TermsDesk$Parser -/
set_option maxRecDepth 100000
def RX14 : String := "TermsDesk$Parser"
def TX14 : u_T := fun k => match k with
  | 0 => ("TermsDesk$Parser", "text", "Ljava/lang/CharSequence;", true)
  | _ => ("TermsDesk$Parser", "position", "I", false)
def tyX14 : Nat → FieldType := fun k => match k with
  | 0 => .object "java/lang/CharSequence"
  | _ => .int
abbrev wsX140 : List Cond := u_ws RX14 TX14 2
theorem nmX14 : ∀ a, a < 2 → ∀ b, b < 2 → a ≠ b → (TX14 a).2.1 ≠ (TX14 b).2.1 := by decide +kernel
theorem tyX14_ok : ∀ k, k < 2 → parseFieldDescriptor (TX14 k).2.2.1 = some (tyX14 k) := by decide +kernel
abbrev cX14_init : ByteArray := prog_9_method_1_code
def yX14_init : MethodName := ⟨RX14, "<init>", "(Ljava/lang/CharSequence;)V"⟩
def dkwX14_init_0 : List UInt8 := [42, 183, 0, 3, 42, 43, 181, 0, 9, 177]
abbrev dktX14_init_0 : List UInt8 := dkwX14_init_0 ++ []
theorem dksX14_init_0 : cX14_init.data.toList.drop 0 = dktX14_init_0 := by decide +kernel
theorem dX14_init_0 : decode cX14_init 0 = .ok (.aload_n 0, 1) := dk_42 (dk_at dksX14_init_0 0 rfl rfl)
theorem dX14_init_1 : decode cX14_init 1 = .ok (.invokespecial 3, 3) := dk_183 0 3 (dk_at dksX14_init_0 1 rfl rfl)
theorem dX14_init_4 : decode cX14_init 4 = .ok (.aload_n 0, 1) := dk_42 (dk_at dksX14_init_0 4 rfl rfl)
theorem dX14_init_5 : decode cX14_init 5 = .ok (.aload_n 1, 1) := dk_43 (dk_at dksX14_init_0 5 rfl rfl)
theorem dX14_init_6 : decode cX14_init 6 = .ok (.putfield 9, 3) := dk_181 0 9 (dk_at dksX14_init_0 6 rfl rfl)
theorem dX14_init_9 : decode cX14_init 9 = .ok (.return_, 1) := dk_177 (dk_at dksX14_init_0 9 rfl rfl)
abbrev cX14_items : ByteArray := prog_9_method_7_code
def yX14_items : MethodName := ⟨RX14, "items", "()Ljava/util/ArrayList;"⟩
def dkwX14_items_2 : List UInt8 := [182, 0, 61, 182, 0, 65, 61, 167, 255, 222, 43, 176]
abbrev dktX14_items_2 : List UInt8 := dkwX14_items_2 ++ []
def dkwX14_items_1 : List UInt8 := [180, 0, 9, 185, 0, 19, 1, 0, 162, 0, 24, 42, 16, 59, 16, 59, 182, 0, 42, 62, 43, 42]
abbrev dktX14_items_1 : List UInt8 := dkwX14_items_1 ++ dktX14_items_2
def dkwX14_items_0 : List UInt8 := [187, 0, 58, 89, 183, 0, 60, 76, 43, 42, 182, 0, 61, 182, 0, 65, 61, 42, 180, 0, 15, 42]
abbrev dktX14_items_0 : List UInt8 := dkwX14_items_0 ++ dktX14_items_1
theorem dksX14_items_0 : cX14_items.data.toList.drop 0 = dktX14_items_0 := by decide +kernel
theorem dksX14_items_1 : cX14_items.data.toList.drop 22 = dktX14_items_1 := dk_seg dksX14_items_0 22 rfl rfl
theorem dksX14_items_2 : cX14_items.data.toList.drop 44 = dktX14_items_2 := dk_seg dksX14_items_1 22 rfl rfl
theorem dX14_items_0 : decode cX14_items 0 = .ok (.new 58, 3) := dk_187 0 58 (dk_at dksX14_items_0 0 rfl rfl)
theorem dX14_items_3 : decode cX14_items 3 = .ok (.dup, 1) := dk_89 (dk_at dksX14_items_0 3 rfl rfl)
theorem dX14_items_4 : decode cX14_items 4 = .ok (.invokespecial 60, 3) := dk_183 0 60 (dk_at dksX14_items_0 4 rfl rfl)
theorem dX14_items_7 : decode cX14_items 7 = .ok (.astore_n 1, 1) := dk_76 (dk_at dksX14_items_0 7 rfl rfl)
theorem dX14_items_8 : decode cX14_items 8 = .ok (.aload_n 1, 1) := dk_43 (dk_at dksX14_items_0 8 rfl rfl)
theorem dX14_items_9 : decode cX14_items 9 = .ok (.aload_n 0, 1) := dk_42 (dk_at dksX14_items_0 9 rfl rfl)
theorem dX14_items_10 : decode cX14_items 10 = .ok (.invokevirtual 61, 3) := dk_182 0 61 (dk_at dksX14_items_0 10 rfl rfl)
theorem dX14_items_13 : decode cX14_items 13 = .ok (.invokevirtual 65, 3) := dk_182 0 65 (dk_at dksX14_items_0 13 rfl rfl)
theorem dX14_items_16 : decode cX14_items 16 = .ok (.istore_n 2, 1) := dk_61 (dk_at dksX14_items_0 16 rfl rfl)
theorem dX14_items_17 : decode cX14_items 17 = .ok (.aload_n 0, 1) := dk_42 (dk_at dksX14_items_0 17 rfl rfl)
theorem dX14_items_18 : decode cX14_items 18 = .ok (.getfield 15, 3) := dk_180 0 15 (dk_at dksX14_items_0 18 rfl rfl)
theorem dX14_items_21 : decode cX14_items 21 = .ok (.aload_n 0, 1) := dk_42 (dk_at dksX14_items_0 21 rfl rfl)
theorem dX14_items_22 : decode cX14_items 22 = .ok (.getfield 9, 3) := dk_180 0 9 (dk_at dksX14_items_1 0 rfl rfl)
theorem dX14_items_25 : decode cX14_items 25 = .ok (.invokeinterface 19 1, 5) := by decide +kernel
theorem dX14_items_30 : decode cX14_items 30 = .ok (.if_icmp .ge 24, 3) := dk_162 0 24 (dk_at dksX14_items_1 8 rfl rfl)
theorem dX14_items_33 : decode cX14_items 33 = .ok (.aload_n 0, 1) := dk_42 (dk_at dksX14_items_1 11 rfl rfl)
theorem dX14_items_34 : decode cX14_items 34 = .ok (.bipush 59, 2) := dk_16 59 (dk_at dksX14_items_1 12 rfl rfl)
theorem dX14_items_36 : decode cX14_items 36 = .ok (.bipush 59, 2) := dk_16 59 (dk_at dksX14_items_1 14 rfl rfl)
theorem dX14_items_38 : decode cX14_items 38 = .ok (.invokevirtual 42, 3) := dk_182 0 42 (dk_at dksX14_items_1 16 rfl rfl)
theorem dX14_items_41 : decode cX14_items 41 = .ok (.istore_n 3, 1) := dk_62 (dk_at dksX14_items_1 19 rfl rfl)
theorem dX14_items_42 : decode cX14_items 42 = .ok (.aload_n 1, 1) := dk_43 (dk_at dksX14_items_1 20 rfl rfl)
theorem dX14_items_43 : decode cX14_items 43 = .ok (.aload_n 0, 1) := dk_42 (dk_at dksX14_items_1 21 rfl rfl)
theorem dX14_items_44 : decode cX14_items 44 = .ok (.invokevirtual 61, 3) := dk_182 0 61 (dk_at dksX14_items_2 0 rfl rfl)
theorem dX14_items_47 : decode cX14_items 47 = .ok (.invokevirtual 65, 3) := dk_182 0 65 (dk_at dksX14_items_2 3 rfl rfl)
theorem dX14_items_50 : decode cX14_items 50 = .ok (.istore_n 2, 1) := dk_61 (dk_at dksX14_items_2 6 rfl rfl)
theorem dX14_items_51 : decode cX14_items 51 = .ok (.goto (-34), 3) := dk_167 255 222 (dk_at dksX14_items_2 7 rfl rfl)
theorem dX14_items_54 : decode cX14_items 54 = .ok (.aload_n 1, 1) := dk_43 (dk_at dksX14_items_2 10 rfl rfl)
theorem dX14_items_55 : decode cX14_items 55 = .ok (.areturn, 1) := dk_176 (dk_at dksX14_items_2 11 rfl rfl)
abbrev cX14_item : ByteArray := prog_9_method_6_code
def yX14_item : MethodName := ⟨RX14, "item", "()LTermsDesk$Item;"⟩
def dkwX14_item_6 : List UInt8 := [28, 42, 182, 0, 46, 3, 183, 0, 55, 176, 187, 0, 37, 89, 27, 183, 0, 39, 191]
abbrev dktX14_item_6 : List UInt8 := dkwX14_item_6 ++ []
def dkwX14_item_5 : List UInt8 := [182, 0, 46, 62, 187, 0, 49, 89, 28, 29, 42, 16, 62, 182, 0, 51, 183, 0, 55, 176, 187, 0, 49, 89]
abbrev dktX14_item_5 : List UInt8 := dkwX14_item_5 ++ dktX14_item_6
def dkwX14_item_4 : List UInt8 := [42, 182, 0, 46, 62, 187, 0, 49, 89, 28, 29, 42, 16, 58, 182, 0, 51, 183, 0, 55, 176, 42]
abbrev dktX14_item_4 : List UInt8 := dkwX14_item_4 ++ dktX14_item_5
def dkwX14_item_3 : List UInt8 := [16, 47, 182, 0, 51, 167, 0, 4, 2, 183, 0, 55, 176, 187, 0, 49, 89, 28, 3, 3, 183, 0, 55, 176]
abbrev dktX14_item_3 : List UInt8 := dkwX14_item_3 ++ dktX14_item_4
def dkwX14_item_2 : List UInt8 := [42, 182, 0, 46, 62, 187, 0, 49, 89, 28, 29, 42, 16, 47, 16, 47, 182, 0, 33, 153, 0, 12, 42]
abbrev dktX14_item_2 : List UInt8 := dkwX14_item_2 ++ dktX14_item_3
def dkwX14_item_1 : List UInt8 := [170, 0, 0, 0, 0, 189, 0, 0, 0, 102, 0, 0, 0, 119, 0, 0, 0, 86, 0, 0, 0, 189, 0, 0, 0, 189, 0, 0, 0, 189, 0, 0, 0, 133, 0, 0, 0, 154, 0, 0, 0, 189, 0, 0, 0, 189, 0, 0, 0, 189, 0, 0, 0, 189, 0, 0, 0, 189, 0, 0, 0, 189, 0, 0, 0, 189, 0, 0, 0, 175, 0, 0, 0, 189, 0, 0, 0, 175, 0, 0, 0, 189, 0, 0, 0, 122]
abbrev dktX14_item_1 : List UInt8 := dkwX14_item_1 ++ dktX14_item_2
def dkwX14_item_0 : List UInt8 := [42, 180, 0, 15, 60, 42, 3, 16, 127, 182, 0, 42, 61, 28]
abbrev dktX14_item_0 : List UInt8 := dkwX14_item_0 ++ dktX14_item_1
theorem dksX14_item_0 : cX14_item.data.toList.drop 0 = dktX14_item_0 := by decide +kernel
theorem dksX14_item_1 : cX14_item.data.toList.drop 14 = dktX14_item_1 := dk_seg dksX14_item_0 14 rfl rfl
theorem dksX14_item_2 : cX14_item.data.toList.drop 100 = dktX14_item_2 := dk_seg dksX14_item_1 86 rfl rfl
theorem dksX14_item_3 : cX14_item.data.toList.drop 123 = dktX14_item_3 := dk_seg dksX14_item_2 23 rfl rfl
theorem dksX14_item_4 : cX14_item.data.toList.drop 147 = dktX14_item_4 := dk_seg dksX14_item_3 24 rfl rfl
theorem dksX14_item_5 : cX14_item.data.toList.drop 169 = dktX14_item_5 := dk_seg dksX14_item_4 22 rfl rfl
theorem dksX14_item_6 : cX14_item.data.toList.drop 193 = dktX14_item_6 := dk_seg dksX14_item_5 24 rfl rfl
theorem dX14_item_0 : decode cX14_item 0 = .ok (.aload_n 0, 1) := dk_42 (dk_at dksX14_item_0 0 rfl rfl)
theorem dX14_item_1 : decode cX14_item 1 = .ok (.getfield 15, 3) := dk_180 0 15 (dk_at dksX14_item_0 1 rfl rfl)
theorem dX14_item_4 : decode cX14_item 4 = .ok (.istore_n 1, 1) := dk_60 (dk_at dksX14_item_0 4 rfl rfl)
theorem dX14_item_5 : decode cX14_item 5 = .ok (.aload_n 0, 1) := dk_42 (dk_at dksX14_item_0 5 rfl rfl)
theorem dX14_item_6 : decode cX14_item 6 = .ok (.iconst 0, 1) := dk_3 (dk_at dksX14_item_0 6 rfl rfl)
theorem dX14_item_7 : decode cX14_item 7 = .ok (.bipush 127, 2) := dk_16 127 (dk_at dksX14_item_0 7 rfl rfl)
theorem dX14_item_9 : decode cX14_item 9 = .ok (.invokevirtual 42, 3) := dk_182 0 42 (dk_at dksX14_item_0 9 rfl rfl)
theorem dX14_item_12 : decode cX14_item 12 = .ok (.istore_n 2, 1) := dk_61 (dk_at dksX14_item_0 12 rfl rfl)
theorem dX14_item_13 : decode cX14_item 13 = .ok (.iload_n 2, 1) := dk_28 (dk_at dksX14_item_0 13 rfl rfl)
theorem dX14_item_14 : decode cX14_item 14 = .ok (.tableswitch 189 102 119 #[86, 189, 189, 189, 133, 154, 189, 189, 189, 189, 189, 189, 189, 175, 189, 175, 189, 122], 86) := by decide +kernel
theorem dX14_item_100 : decode cX14_item 100 = .ok (.aload_n 0, 1) := dk_42 (dk_at dksX14_item_2 0 rfl rfl)
theorem dX14_item_101 : decode cX14_item 101 = .ok (.invokevirtual 46, 3) := dk_182 0 46 (dk_at dksX14_item_2 1 rfl rfl)
theorem dX14_item_104 : decode cX14_item 104 = .ok (.istore_n 3, 1) := dk_62 (dk_at dksX14_item_2 4 rfl rfl)
theorem dX14_item_105 : decode cX14_item 105 = .ok (.new 49, 3) := dk_187 0 49 (dk_at dksX14_item_2 5 rfl rfl)
theorem dX14_item_108 : decode cX14_item 108 = .ok (.dup, 1) := dk_89 (dk_at dksX14_item_2 8 rfl rfl)
theorem dX14_item_109 : decode cX14_item 109 = .ok (.iload_n 2, 1) := dk_28 (dk_at dksX14_item_2 9 rfl rfl)
theorem dX14_item_110 : decode cX14_item 110 = .ok (.iload_n 3, 1) := dk_29 (dk_at dksX14_item_2 10 rfl rfl)
theorem dX14_item_111 : decode cX14_item 111 = .ok (.aload_n 0, 1) := dk_42 (dk_at dksX14_item_2 11 rfl rfl)
theorem dX14_item_112 : decode cX14_item 112 = .ok (.bipush 47, 2) := dk_16 47 (dk_at dksX14_item_2 12 rfl rfl)
theorem dX14_item_114 : decode cX14_item 114 = .ok (.bipush 47, 2) := dk_16 47 (dk_at dksX14_item_2 14 rfl rfl)
theorem dX14_item_116 : decode cX14_item 116 = .ok (.invokevirtual 33, 3) := dk_182 0 33 (dk_at dksX14_item_2 16 rfl rfl)
theorem dX14_item_119 : decode cX14_item 119 = .ok (.ifCond .eq 12, 3) := dk_153 0 12 (dk_at dksX14_item_2 19 rfl rfl)
theorem dX14_item_122 : decode cX14_item 122 = .ok (.aload_n 0, 1) := dk_42 (dk_at dksX14_item_2 22 rfl rfl)
theorem dX14_item_123 : decode cX14_item 123 = .ok (.bipush 47, 2) := dk_16 47 (dk_at dksX14_item_3 0 rfl rfl)
theorem dX14_item_125 : decode cX14_item 125 = .ok (.invokevirtual 51, 3) := dk_182 0 51 (dk_at dksX14_item_3 2 rfl rfl)
theorem dX14_item_128 : decode cX14_item 128 = .ok (.goto 4, 3) := dk_167 0 4 (dk_at dksX14_item_3 5 rfl rfl)
theorem dX14_item_131 : decode cX14_item 131 = .ok (.iconst (-1), 1) := dk_2 (dk_at dksX14_item_3 8 rfl rfl)
theorem dX14_item_132 : decode cX14_item 132 = .ok (.invokespecial 55, 3) := dk_183 0 55 (dk_at dksX14_item_3 9 rfl rfl)
theorem dX14_item_135 : decode cX14_item 135 = .ok (.areturn, 1) := dk_176 (dk_at dksX14_item_3 12 rfl rfl)
theorem dX14_item_136 : decode cX14_item 136 = .ok (.new 49, 3) := dk_187 0 49 (dk_at dksX14_item_3 13 rfl rfl)
theorem dX14_item_139 : decode cX14_item 139 = .ok (.dup, 1) := dk_89 (dk_at dksX14_item_3 16 rfl rfl)
theorem dX14_item_140 : decode cX14_item 140 = .ok (.iload_n 2, 1) := dk_28 (dk_at dksX14_item_3 17 rfl rfl)
theorem dX14_item_141 : decode cX14_item 141 = .ok (.iconst 0, 1) := dk_3 (dk_at dksX14_item_3 18 rfl rfl)
theorem dX14_item_142 : decode cX14_item 142 = .ok (.iconst 0, 1) := dk_3 (dk_at dksX14_item_3 19 rfl rfl)
theorem dX14_item_143 : decode cX14_item 143 = .ok (.invokespecial 55, 3) := dk_183 0 55 (dk_at dksX14_item_3 20 rfl rfl)
theorem dX14_item_146 : decode cX14_item 146 = .ok (.areturn, 1) := dk_176 (dk_at dksX14_item_3 23 rfl rfl)
theorem dX14_item_147 : decode cX14_item 147 = .ok (.aload_n 0, 1) := dk_42 (dk_at dksX14_item_4 0 rfl rfl)
theorem dX14_item_148 : decode cX14_item 148 = .ok (.invokevirtual 46, 3) := dk_182 0 46 (dk_at dksX14_item_4 1 rfl rfl)
theorem dX14_item_151 : decode cX14_item 151 = .ok (.istore_n 3, 1) := dk_62 (dk_at dksX14_item_4 4 rfl rfl)
theorem dX14_item_152 : decode cX14_item 152 = .ok (.new 49, 3) := dk_187 0 49 (dk_at dksX14_item_4 5 rfl rfl)
theorem dX14_item_155 : decode cX14_item 155 = .ok (.dup, 1) := dk_89 (dk_at dksX14_item_4 8 rfl rfl)
theorem dX14_item_156 : decode cX14_item 156 = .ok (.iload_n 2, 1) := dk_28 (dk_at dksX14_item_4 9 rfl rfl)
theorem dX14_item_157 : decode cX14_item 157 = .ok (.iload_n 3, 1) := dk_29 (dk_at dksX14_item_4 10 rfl rfl)
theorem dX14_item_158 : decode cX14_item 158 = .ok (.aload_n 0, 1) := dk_42 (dk_at dksX14_item_4 11 rfl rfl)
theorem dX14_item_159 : decode cX14_item 159 = .ok (.bipush 58, 2) := dk_16 58 (dk_at dksX14_item_4 12 rfl rfl)
theorem dX14_item_161 : decode cX14_item 161 = .ok (.invokevirtual 51, 3) := dk_182 0 51 (dk_at dksX14_item_4 14 rfl rfl)
theorem dX14_item_164 : decode cX14_item 164 = .ok (.invokespecial 55, 3) := dk_183 0 55 (dk_at dksX14_item_4 17 rfl rfl)
theorem dX14_item_167 : decode cX14_item 167 = .ok (.areturn, 1) := dk_176 (dk_at dksX14_item_4 20 rfl rfl)
theorem dX14_item_168 : decode cX14_item 168 = .ok (.aload_n 0, 1) := dk_42 (dk_at dksX14_item_4 21 rfl rfl)
theorem dX14_item_169 : decode cX14_item 169 = .ok (.invokevirtual 46, 3) := dk_182 0 46 (dk_at dksX14_item_5 0 rfl rfl)
theorem dX14_item_172 : decode cX14_item 172 = .ok (.istore_n 3, 1) := dk_62 (dk_at dksX14_item_5 3 rfl rfl)
theorem dX14_item_173 : decode cX14_item 173 = .ok (.new 49, 3) := dk_187 0 49 (dk_at dksX14_item_5 4 rfl rfl)
theorem dX14_item_176 : decode cX14_item 176 = .ok (.dup, 1) := dk_89 (dk_at dksX14_item_5 7 rfl rfl)
theorem dX14_item_177 : decode cX14_item 177 = .ok (.iload_n 2, 1) := dk_28 (dk_at dksX14_item_5 8 rfl rfl)
theorem dX14_item_178 : decode cX14_item 178 = .ok (.iload_n 3, 1) := dk_29 (dk_at dksX14_item_5 9 rfl rfl)
theorem dX14_item_179 : decode cX14_item 179 = .ok (.aload_n 0, 1) := dk_42 (dk_at dksX14_item_5 10 rfl rfl)
theorem dX14_item_180 : decode cX14_item 180 = .ok (.bipush 62, 2) := dk_16 62 (dk_at dksX14_item_5 11 rfl rfl)
theorem dX14_item_182 : decode cX14_item 182 = .ok (.invokevirtual 51, 3) := dk_182 0 51 (dk_at dksX14_item_5 13 rfl rfl)
theorem dX14_item_185 : decode cX14_item 185 = .ok (.invokespecial 55, 3) := dk_183 0 55 (dk_at dksX14_item_5 16 rfl rfl)
theorem dX14_item_188 : decode cX14_item 188 = .ok (.areturn, 1) := dk_176 (dk_at dksX14_item_5 19 rfl rfl)
theorem dX14_item_189 : decode cX14_item 189 = .ok (.new 49, 3) := dk_187 0 49 (dk_at dksX14_item_5 20 rfl rfl)
theorem dX14_item_192 : decode cX14_item 192 = .ok (.dup, 1) := dk_89 (dk_at dksX14_item_5 23 rfl rfl)
theorem dX14_item_193 : decode cX14_item 193 = .ok (.iload_n 2, 1) := dk_28 (dk_at dksX14_item_6 0 rfl rfl)
theorem dX14_item_194 : decode cX14_item 194 = .ok (.aload_n 0, 1) := dk_42 (dk_at dksX14_item_6 1 rfl rfl)
theorem dX14_item_195 : decode cX14_item 195 = .ok (.invokevirtual 46, 3) := dk_182 0 46 (dk_at dksX14_item_6 2 rfl rfl)
theorem dX14_item_198 : decode cX14_item 198 = .ok (.iconst 0, 1) := dk_3 (dk_at dksX14_item_6 5 rfl rfl)
theorem dX14_item_199 : decode cX14_item 199 = .ok (.invokespecial 55, 3) := dk_183 0 55 (dk_at dksX14_item_6 6 rfl rfl)
theorem dX14_item_202 : decode cX14_item 202 = .ok (.areturn, 1) := dk_176 (dk_at dksX14_item_6 9 rfl rfl)
theorem dX14_item_203 : decode cX14_item 203 = .ok (.new 37, 3) := dk_187 0 37 (dk_at dksX14_item_6 10 rfl rfl)
theorem dX14_item_206 : decode cX14_item 206 = .ok (.dup, 1) := dk_89 (dk_at dksX14_item_6 13 rfl rfl)
theorem dX14_item_207 : decode cX14_item 207 = .ok (.iload_n 1, 1) := dk_27 (dk_at dksX14_item_6 14 rfl rfl)
theorem dX14_item_208 : decode cX14_item 208 = .ok (.invokespecial 39, 3) := dk_183 0 39 (dk_at dksX14_item_6 15 rfl rfl)
theorem dX14_item_211 : decode cX14_item 211 = .ok (.athrow, 1) := dk_191 (dk_at dksX14_item_6 18 rfl rfl)
abbrev cX14_take : ByteArray := prog_9_method_3_code
def yX14_take : MethodName := ⟨RX14, "take", "(II)C"⟩
def dkwX14_take_1 : List UInt8 := [180, 0, 15, 4, 96, 181, 0, 15, 42, 180, 0, 9, 42, 180, 0, 15, 4, 100, 185, 0, 25, 2, 0, 172]
abbrev dktX14_take_1 : List UInt8 := dkwX14_take_1 ++ []
def dkwX14_take_0 : List UInt8 := [42, 27, 28, 182, 0, 33, 154, 0, 15, 187, 0, 37, 89, 42, 180, 0, 15, 183, 0, 39, 191, 42, 89]
abbrev dktX14_take_0 : List UInt8 := dkwX14_take_0 ++ dktX14_take_1
theorem dksX14_take_0 : cX14_take.data.toList.drop 0 = dktX14_take_0 := by decide +kernel
theorem dksX14_take_1 : cX14_take.data.toList.drop 23 = dktX14_take_1 := dk_seg dksX14_take_0 23 rfl rfl
theorem dX14_take_0 : decode cX14_take 0 = .ok (.aload_n 0, 1) := dk_42 (dk_at dksX14_take_0 0 rfl rfl)
theorem dX14_take_1 : decode cX14_take 1 = .ok (.iload_n 1, 1) := dk_27 (dk_at dksX14_take_0 1 rfl rfl)
theorem dX14_take_2 : decode cX14_take 2 = .ok (.iload_n 2, 1) := dk_28 (dk_at dksX14_take_0 2 rfl rfl)
theorem dX14_take_3 : decode cX14_take 3 = .ok (.invokevirtual 33, 3) := dk_182 0 33 (dk_at dksX14_take_0 3 rfl rfl)
theorem dX14_take_6 : decode cX14_take 6 = .ok (.ifCond .ne 15, 3) := dk_154 0 15 (dk_at dksX14_take_0 6 rfl rfl)
theorem dX14_take_9 : decode cX14_take 9 = .ok (.new 37, 3) := dk_187 0 37 (dk_at dksX14_take_0 9 rfl rfl)
theorem dX14_take_12 : decode cX14_take 12 = .ok (.dup, 1) := dk_89 (dk_at dksX14_take_0 12 rfl rfl)
theorem dX14_take_13 : decode cX14_take 13 = .ok (.aload_n 0, 1) := dk_42 (dk_at dksX14_take_0 13 rfl rfl)
theorem dX14_take_14 : decode cX14_take 14 = .ok (.getfield 15, 3) := dk_180 0 15 (dk_at dksX14_take_0 14 rfl rfl)
theorem dX14_take_17 : decode cX14_take 17 = .ok (.invokespecial 39, 3) := dk_183 0 39 (dk_at dksX14_take_0 17 rfl rfl)
theorem dX14_take_20 : decode cX14_take 20 = .ok (.athrow, 1) := dk_191 (dk_at dksX14_take_0 20 rfl rfl)
theorem dX14_take_21 : decode cX14_take 21 = .ok (.aload_n 0, 1) := dk_42 (dk_at dksX14_take_0 21 rfl rfl)
theorem dX14_take_22 : decode cX14_take 22 = .ok (.dup, 1) := dk_89 (dk_at dksX14_take_0 22 rfl rfl)
theorem dX14_take_23 : decode cX14_take 23 = .ok (.getfield 15, 3) := dk_180 0 15 (dk_at dksX14_take_1 0 rfl rfl)
theorem dX14_take_26 : decode cX14_take 26 = .ok (.iconst 1, 1) := dk_4 (dk_at dksX14_take_1 3 rfl rfl)
theorem dX14_take_27 : decode cX14_take 27 = .ok (.iadd, 1) := dk_96 (dk_at dksX14_take_1 4 rfl rfl)
theorem dX14_take_28 : decode cX14_take 28 = .ok (.putfield 15, 3) := dk_181 0 15 (dk_at dksX14_take_1 5 rfl rfl)
theorem dX14_take_31 : decode cX14_take 31 = .ok (.aload_n 0, 1) := dk_42 (dk_at dksX14_take_1 8 rfl rfl)
theorem dX14_take_32 : decode cX14_take 32 = .ok (.getfield 9, 3) := dk_180 0 9 (dk_at dksX14_take_1 9 rfl rfl)
theorem dX14_take_35 : decode cX14_take 35 = .ok (.aload_n 0, 1) := dk_42 (dk_at dksX14_take_1 12 rfl rfl)
theorem dX14_take_36 : decode cX14_take 36 = .ok (.getfield 15, 3) := dk_180 0 15 (dk_at dksX14_take_1 13 rfl rfl)
theorem dX14_take_39 : decode cX14_take 39 = .ok (.iconst 1, 1) := dk_4 (dk_at dksX14_take_1 16 rfl rfl)
theorem dX14_take_40 : decode cX14_take 40 = .ok (.isub, 1) := dk_100 (dk_at dksX14_take_1 17 rfl rfl)
theorem dX14_take_41 : decode cX14_take 41 = .ok (.invokeinterface 25 2, 5) := by decide +kernel
theorem dX14_take_46 : decode cX14_take 46 = .ok (.ireturn, 1) := dk_172 (dk_at dksX14_take_1 23 rfl rfl)
abbrev cX14_isNext : ByteArray := prog_9_method_2_code
def yX14_isNext : MethodName := ⟨RX14, "isNext", "(II)Z"⟩
def dkwX14_isNext_1 : List UInt8 := [185, 0, 25, 2, 0, 133, 27, 133, 28, 133, 184, 0, 29, 153, 0, 7, 4, 167, 0, 4, 3, 172]
abbrev dktX14_isNext_1 : List UInt8 := dkwX14_isNext_1 ++ []
def dkwX14_isNext_0 : List UInt8 := [42, 180, 0, 15, 42, 180, 0, 9, 185, 0, 19, 1, 0, 162, 0, 31, 42, 180, 0, 9, 42, 180, 0, 15]
abbrev dktX14_isNext_0 : List UInt8 := dkwX14_isNext_0 ++ dktX14_isNext_1
theorem dksX14_isNext_0 : cX14_isNext.data.toList.drop 0 = dktX14_isNext_0 := by decide +kernel
theorem dksX14_isNext_1 : cX14_isNext.data.toList.drop 24 = dktX14_isNext_1 := dk_seg dksX14_isNext_0 24 rfl rfl
theorem dX14_isNext_0 : decode cX14_isNext 0 = .ok (.aload_n 0, 1) := dk_42 (dk_at dksX14_isNext_0 0 rfl rfl)
theorem dX14_isNext_1 : decode cX14_isNext 1 = .ok (.getfield 15, 3) := dk_180 0 15 (dk_at dksX14_isNext_0 1 rfl rfl)
theorem dX14_isNext_4 : decode cX14_isNext 4 = .ok (.aload_n 0, 1) := dk_42 (dk_at dksX14_isNext_0 4 rfl rfl)
theorem dX14_isNext_5 : decode cX14_isNext 5 = .ok (.getfield 9, 3) := dk_180 0 9 (dk_at dksX14_isNext_0 5 rfl rfl)
theorem dX14_isNext_8 : decode cX14_isNext 8 = .ok (.invokeinterface 19 1, 5) := by decide +kernel
theorem dX14_isNext_13 : decode cX14_isNext 13 = .ok (.if_icmp .ge 31, 3) := dk_162 0 31 (dk_at dksX14_isNext_0 13 rfl rfl)
theorem dX14_isNext_16 : decode cX14_isNext 16 = .ok (.aload_n 0, 1) := dk_42 (dk_at dksX14_isNext_0 16 rfl rfl)
theorem dX14_isNext_17 : decode cX14_isNext 17 = .ok (.getfield 9, 3) := dk_180 0 9 (dk_at dksX14_isNext_0 17 rfl rfl)
theorem dX14_isNext_20 : decode cX14_isNext 20 = .ok (.aload_n 0, 1) := dk_42 (dk_at dksX14_isNext_0 20 rfl rfl)
theorem dX14_isNext_21 : decode cX14_isNext 21 = .ok (.getfield 15, 3) := dk_180 0 15 (dk_at dksX14_isNext_0 21 rfl rfl)
theorem dX14_isNext_24 : decode cX14_isNext 24 = .ok (.invokeinterface 25 2, 5) := by decide +kernel
theorem dX14_isNext_29 : decode cX14_isNext 29 = .ok (.i2l, 1) := dk_133 (dk_at dksX14_isNext_1 5 rfl rfl)
theorem dX14_isNext_30 : decode cX14_isNext 30 = .ok (.iload_n 1, 1) := dk_27 (dk_at dksX14_isNext_1 6 rfl rfl)
theorem dX14_isNext_31 : decode cX14_isNext 31 = .ok (.i2l, 1) := dk_133 (dk_at dksX14_isNext_1 7 rfl rfl)
theorem dX14_isNext_32 : decode cX14_isNext 32 = .ok (.iload_n 2, 1) := dk_28 (dk_at dksX14_isNext_1 8 rfl rfl)
theorem dX14_isNext_33 : decode cX14_isNext 33 = .ok (.i2l, 1) := dk_133 (dk_at dksX14_isNext_1 9 rfl rfl)
theorem dX14_isNext_34 : decode cX14_isNext 34 = .ok (.invokestatic 29, 3) := dk_184 0 29 (dk_at dksX14_isNext_1 10 rfl rfl)
theorem dX14_isNext_37 : decode cX14_isNext 37 = .ok (.ifCond .eq 7, 3) := dk_153 0 7 (dk_at dksX14_isNext_1 13 rfl rfl)
theorem dX14_isNext_40 : decode cX14_isNext 40 = .ok (.iconst 1, 1) := dk_4 (dk_at dksX14_isNext_1 16 rfl rfl)
theorem dX14_isNext_41 : decode cX14_isNext 41 = .ok (.goto 4, 3) := dk_167 0 4 (dk_at dksX14_isNext_1 17 rfl rfl)
theorem dX14_isNext_44 : decode cX14_isNext 44 = .ok (.iconst 0, 1) := dk_3 (dk_at dksX14_isNext_1 20 rfl rfl)
theorem dX14_isNext_45 : decode cX14_isNext 45 = .ok (.ireturn, 1) := dk_172 (dk_at dksX14_isNext_1 21 rfl rfl)
abbrev cX14_digit : ByteArray := prog_9_method_4_code
def yX14_digit : MethodName := ⟨RX14, "digit", "()I"⟩
def dkwX14_digit_0 : List UInt8 := [42, 16, 48, 16, 57, 182, 0, 42, 16, 48, 100, 172]
abbrev dktX14_digit_0 : List UInt8 := dkwX14_digit_0 ++ []
theorem dksX14_digit_0 : cX14_digit.data.toList.drop 0 = dktX14_digit_0 := by decide +kernel
theorem dX14_digit_0 : decode cX14_digit 0 = .ok (.aload_n 0, 1) := dk_42 (dk_at dksX14_digit_0 0 rfl rfl)
theorem dX14_digit_1 : decode cX14_digit 1 = .ok (.bipush 48, 2) := dk_16 48 (dk_at dksX14_digit_0 1 rfl rfl)
theorem dX14_digit_3 : decode cX14_digit 3 = .ok (.bipush 57, 2) := dk_16 57 (dk_at dksX14_digit_0 3 rfl rfl)
theorem dX14_digit_5 : decode cX14_digit 5 = .ok (.invokevirtual 42, 3) := dk_182 0 42 (dk_at dksX14_digit_0 5 rfl rfl)
theorem dX14_digit_8 : decode cX14_digit 8 = .ok (.bipush 48, 2) := dk_16 48 (dk_at dksX14_digit_0 8 rfl rfl)
theorem dX14_digit_10 : decode cX14_digit 10 = .ok (.isub, 1) := dk_100 (dk_at dksX14_digit_0 10 rfl rfl)
theorem dX14_digit_11 : decode cX14_digit 11 = .ok (.ireturn, 1) := dk_172 (dk_at dksX14_digit_0 11 rfl rfl)
abbrev cX14_digitBehind : ByteArray := prog_9_method_5_code
def yX14_digitBehind : MethodName := ⟨RX14, "digitBehind", "(C)I"⟩
def dkwX14_digitBehind_0 : List UInt8 := [42, 27, 27, 182, 0, 42, 61, 42, 182, 0, 46, 172]
abbrev dktX14_digitBehind_0 : List UInt8 := dkwX14_digitBehind_0 ++ []
theorem dksX14_digitBehind_0 : cX14_digitBehind.data.toList.drop 0 = dktX14_digitBehind_0 := by decide +kernel
theorem dX14_digitBehind_0 : decode cX14_digitBehind 0 = .ok (.aload_n 0, 1) := dk_42 (dk_at dksX14_digitBehind_0 0 rfl rfl)
theorem dX14_digitBehind_1 : decode cX14_digitBehind 1 = .ok (.iload_n 1, 1) := dk_27 (dk_at dksX14_digitBehind_0 1 rfl rfl)
theorem dX14_digitBehind_2 : decode cX14_digitBehind 2 = .ok (.iload_n 1, 1) := dk_27 (dk_at dksX14_digitBehind_0 2 rfl rfl)
theorem dX14_digitBehind_3 : decode cX14_digitBehind 3 = .ok (.invokevirtual 42, 3) := dk_182 0 42 (dk_at dksX14_digitBehind_0 3 rfl rfl)
theorem dX14_digitBehind_6 : decode cX14_digitBehind 6 = .ok (.istore_n 2, 1) := dk_61 (dk_at dksX14_digitBehind_0 6 rfl rfl)
theorem dX14_digitBehind_7 : decode cX14_digitBehind 7 = .ok (.aload_n 0, 1) := dk_42 (dk_at dksX14_digitBehind_0 7 rfl rfl)
theorem dX14_digitBehind_8 : decode cX14_digitBehind 8 = .ok (.invokevirtual 46, 3) := dk_182 0 46 (dk_at dksX14_digitBehind_0 8 rfl rfl)
theorem dX14_digitBehind_11 : decode cX14_digitBehind 11 = .ok (.ireturn, 1) := dk_172 (dk_at dksX14_digitBehind_0 11 rfl rfl)
theorem q113 : (Jvm.Cond.initialized "TermsDesk$Parser") ∈ lw_all := lw_g (lw_at lw_m1 45 rfl) rfl
theorem q740 : (Jvm.Cond.selects "TermsDesk$Parser" ({ cls := "java/lang/Object", name := "getClass", desc := "()Ljava/lang/Class;" } : Jvm.MethodName) ({ cls := "java/lang/Object", name := "getClass", desc := "()Ljava/lang/Class;" } : Jvm.MethodName)) ∈ lw_all := lw_g (lw_at lw_m3 192 rfl) rfl
theorem q1889 : (Jvm.Cond.instantiable "TermsDesk$Parser" (2 : Nat)) ∈ lw_all := lw_g (lw_at lw_m8 141 rfl) rfl
theorem q1891 : (Jvm.Cond.instanceMethod ({ cls := "TermsDesk$Parser", name := "<init>", desc := "(Ljava/lang/CharSequence;)V" } : Jvm.MethodName)) ∈ lw_all := lw_g (lw_at lw_m8 143 rfl) rfl
theorem q1892 : (Jvm.Cond.code ({ cls := "TermsDesk$Parser", name := "<init>", desc := "(Ljava/lang/CharSequence;)V" } : Jvm.MethodName) prog_9_method_1_code (2 : Nat) (Option.none : Option Jvm.ClassFile.FieldType)) ∈ lw_all := lw_g (lw_at lw_m8 144 rfl) rfl
theorem q1893 : (Jvm.Cond.methodLink "TermsDesk$Parser" (3 : Nat) ({ cls := "java/lang/Object", name := "<init>", desc := "()V" } : Jvm.MethodName)) ∈ lw_all := lw_g (lw_at lw_m8 145 rfl) rfl
theorem q1894 : (Jvm.Cond.fieldLink "TermsDesk$Parser" (9 : Nat) "TermsDesk$Parser" "text" "Ljava/lang/CharSequence;") ∈ lw_all := lw_g (lw_at lw_m8 146 rfl) rfl
theorem q1895 : (Jvm.Cond.fieldLink "TermsDesk$Parser" (15 : Nat) "TermsDesk$Parser" "position" "I") ∈ lw_all := lw_g (lw_at lw_m8 147 rfl) rfl
theorem q1896 : (Jvm.Cond.laysFinal "TermsDesk$Parser" "TermsDesk$Parser" "text" "Ljava/lang/CharSequence;") ∈ lw_all := lw_g (lw_at lw_m8 148 rfl) rfl
theorem q1897 : (Jvm.Cond.soleField "TermsDesk$Parser" "text") ∈ lw_all := lw_g (lw_at lw_m8 149 rfl) rfl
theorem q1898 : (Jvm.Cond.lays "TermsDesk$Parser" "TermsDesk$Parser" "position" "I") ∈ lw_all := lw_g (lw_at lw_m8 150 rfl) rfl
theorem q1899 : (Jvm.Cond.soleField "TermsDesk$Parser" "position") ∈ lw_all := lw_g (lw_at lw_m8 151 rfl) rfl
theorem q1900 : (Jvm.Cond.superclass "TermsDesk$Parser" "java/lang/Object") ∈ lw_all := lw_g (lw_at lw_m8 152 rfl) rfl
theorem q1902 : (Jvm.Cond.instanceMethod ({ cls := "TermsDesk$Parser", name := "items", desc := "()Ljava/util/ArrayList;" } : Jvm.MethodName)) ∈ lw_all := lw_g (lw_at lw_m8 154 rfl) rfl
theorem q1903 : (Jvm.Cond.selects "TermsDesk$Parser" ({ cls := "TermsDesk$Parser", name := "items", desc := "()Ljava/util/ArrayList;" } : Jvm.MethodName) ({ cls := "TermsDesk$Parser", name := "items", desc := "()Ljava/util/ArrayList;" } : Jvm.MethodName)) ∈ lw_all := lw_g (lw_at lw_m8 155 rfl) rfl
theorem q1904 : (Jvm.Cond.code ({ cls := "TermsDesk$Parser", name := "items", desc := "()Ljava/util/ArrayList;" } : Jvm.MethodName) prog_9_method_7_code (4 : Nat) (Option.some (Jvm.ClassFile.FieldType.object "java/util/ArrayList"))) ∈ lw_all := lw_g (lw_at lw_m8 156 rfl) rfl
theorem q1905 : (Jvm.Cond.classLink "TermsDesk$Parser" (58 : Nat) "java/util/ArrayList") ∈ lw_all := lw_g (lw_at lw_m8 157 rfl) rfl
theorem q1906 : (Jvm.Cond.methodLink "TermsDesk$Parser" (60 : Nat) ({ cls := "java/util/ArrayList", name := "<init>", desc := "()V" } : Jvm.MethodName)) ∈ lw_all := lw_g (lw_at lw_m8 158 rfl) rfl
theorem q1907 : (Jvm.Cond.methodLink "TermsDesk$Parser" (61 : Nat) ({ cls := "TermsDesk$Parser", name := "item", desc := "()LTermsDesk$Item;" } : Jvm.MethodName)) ∈ lw_all := lw_g (lw_at lw_m8 159 rfl) rfl
theorem q1908 : (Jvm.Cond.privateMethod ({ cls := "TermsDesk$Parser", name := "item", desc := "()LTermsDesk$Item;" } : Jvm.MethodName)) ∈ lw_tbl := lw_at lw_m8 160 rfl
theorem q1909 : (Jvm.Cond.instanceMethod ({ cls := "TermsDesk$Parser", name := "item", desc := "()LTermsDesk$Item;" } : Jvm.MethodName)) ∈ lw_all := lw_g (lw_at lw_m8 161 rfl) rfl
theorem q1910 : (Jvm.Cond.code ({ cls := "TermsDesk$Parser", name := "item", desc := "()LTermsDesk$Item;" } : Jvm.MethodName) prog_9_method_6_code (4 : Nat) (Option.some (Jvm.ClassFile.FieldType.object "TermsDesk$Item"))) ∈ lw_all := lw_g (lw_at lw_m8 162 rfl) rfl
theorem q1911 : (Jvm.Cond.methodLink "TermsDesk$Parser" (42 : Nat) ({ cls := "TermsDesk$Parser", name := "take", desc := "(II)C" } : Jvm.MethodName)) ∈ lw_all := lw_g (lw_at lw_m8 163 rfl) rfl
theorem q1912 : (Jvm.Cond.privateMethod ({ cls := "TermsDesk$Parser", name := "take", desc := "(II)C" } : Jvm.MethodName)) ∈ lw_tbl := lw_at lw_m8 164 rfl
theorem q1913 : (Jvm.Cond.instanceMethod ({ cls := "TermsDesk$Parser", name := "take", desc := "(II)C" } : Jvm.MethodName)) ∈ lw_all := lw_g (lw_at lw_m8 165 rfl) rfl
theorem q1914 : (Jvm.Cond.code ({ cls := "TermsDesk$Parser", name := "take", desc := "(II)C" } : Jvm.MethodName) prog_9_method_3_code (3 : Nat) (Option.some Jvm.ClassFile.FieldType.char)) ∈ lw_all := lw_g (lw_at lw_m8 166 rfl) rfl
theorem q1915 : (Jvm.Cond.methodLink "TermsDesk$Parser" (33 : Nat) ({ cls := "TermsDesk$Parser", name := "isNext", desc := "(II)Z" } : Jvm.MethodName)) ∈ lw_all := lw_g (lw_at lw_m8 167 rfl) rfl
theorem q1916 : (Jvm.Cond.privateMethod ({ cls := "TermsDesk$Parser", name := "isNext", desc := "(II)Z" } : Jvm.MethodName)) ∈ lw_tbl := lw_at lw_m8 168 rfl
theorem q1917 : (Jvm.Cond.instanceMethod ({ cls := "TermsDesk$Parser", name := "isNext", desc := "(II)Z" } : Jvm.MethodName)) ∈ lw_all := lw_g (lw_at lw_m8 169 rfl) rfl
theorem q1918 : (Jvm.Cond.code ({ cls := "TermsDesk$Parser", name := "isNext", desc := "(II)Z" } : Jvm.MethodName) prog_9_method_2_code (3 : Nat) (Option.some Jvm.ClassFile.FieldType.boolean)) ∈ lw_all := lw_g (lw_at lw_m8 170 rfl) rfl
theorem q1919 : (Jvm.Cond.interfaceEntry "TermsDesk$Parser" (19 : Nat)) ∈ lw_tbl := lw_at lw_m8 171 rfl
theorem q1920 : (Jvm.Cond.methodLink "TermsDesk$Parser" (19 : Nat) ({ cls := "java/lang/CharSequence", name := "length", desc := "()I" } : Jvm.MethodName)) ∈ lw_all := lw_g (lw_at lw_m8 172 rfl) rfl
theorem q1931 : (Jvm.Cond.interfaceEntry "TermsDesk$Parser" (25 : Nat)) ∈ lw_tbl := lw_at lw_m8 183 rfl
theorem q1932 : (Jvm.Cond.methodLink "TermsDesk$Parser" (25 : Nat) ({ cls := "java/lang/CharSequence", name := "charAt", desc := "(I)C" } : Jvm.MethodName)) ∈ lw_all := lw_g (lw_at lw_m8 184 rfl) rfl
theorem q1949 : (Jvm.Cond.methodLinkNest "TermsDesk$Parser" (29 : Nat) ({ cls := "TermsDesk", name := "inRange", desc := "(JJJ)Z" } : Jvm.MethodName) "TermsDesk") ∈ lw_tbl := lw_at lw_m8 201 rfl
theorem q1950 : (Jvm.Cond.classLink "TermsDesk$Parser" (37 : Nat) "TermsDesk$SyntaxException") ∈ lw_all := lw_g (lw_at lw_m8 202 rfl) rfl
theorem q1959 : (Jvm.Cond.methodLink "TermsDesk$Parser" (39 : Nat) ({ cls := "TermsDesk$SyntaxException", name := "<init>", desc := "(I)V" } : Jvm.MethodName)) ∈ lw_all := lw_g (lw_at lw_m8 211 rfl) rfl
theorem q1969 : (Jvm.Cond.methodLink "TermsDesk$Parser" (46 : Nat) ({ cls := "TermsDesk$Parser", name := "digit", desc := "()I" } : Jvm.MethodName)) ∈ lw_all := lw_g (lw_at lw_m8 221 rfl) rfl
theorem q1970 : (Jvm.Cond.privateMethod ({ cls := "TermsDesk$Parser", name := "digit", desc := "()I" } : Jvm.MethodName)) ∈ lw_tbl := lw_at lw_m8 222 rfl
theorem q1971 : (Jvm.Cond.instanceMethod ({ cls := "TermsDesk$Parser", name := "digit", desc := "()I" } : Jvm.MethodName)) ∈ lw_all := lw_g (lw_at lw_m8 223 rfl) rfl
theorem q1972 : (Jvm.Cond.code ({ cls := "TermsDesk$Parser", name := "digit", desc := "()I" } : Jvm.MethodName) prog_9_method_4_code (1 : Nat) (Option.some Jvm.ClassFile.FieldType.int)) ∈ lw_all := lw_g (lw_at lw_m8 224 rfl) rfl
theorem q1973 : (Jvm.Cond.classLink "TermsDesk$Parser" (49 : Nat) "TermsDesk$Item") ∈ lw_all := lw_g (lw_at lw_m8 225 rfl) rfl
theorem q1975 : (Jvm.Cond.methodLink "TermsDesk$Parser" (51 : Nat) ({ cls := "TermsDesk$Parser", name := "digitBehind", desc := "(C)I" } : Jvm.MethodName)) ∈ lw_all := lw_g (lw_at lw_m8 227 rfl) rfl
theorem q1976 : (Jvm.Cond.privateMethod ({ cls := "TermsDesk$Parser", name := "digitBehind", desc := "(C)I" } : Jvm.MethodName)) ∈ lw_tbl := lw_at lw_m8 228 rfl
theorem q1977 : (Jvm.Cond.instanceMethod ({ cls := "TermsDesk$Parser", name := "digitBehind", desc := "(C)I" } : Jvm.MethodName)) ∈ lw_all := lw_g (lw_at lw_m8 229 rfl) rfl
theorem q1978 : (Jvm.Cond.code ({ cls := "TermsDesk$Parser", name := "digitBehind", desc := "(C)I" } : Jvm.MethodName) prog_9_method_5_code (3 : Nat) (Option.some Jvm.ClassFile.FieldType.int)) ∈ lw_all := lw_g (lw_at lw_m8 230 rfl) rfl
theorem q1979 : (Jvm.Cond.methodLink "TermsDesk$Parser" (55 : Nat) ({ cls := "TermsDesk$Item", name := "<init>", desc := "(CII)V" } : Jvm.MethodName)) ∈ lw_all := lw_g (lw_at lw_m8 231 rfl) rfl
theorem q1993 : (Jvm.Cond.methodLink "TermsDesk$Parser" (65 : Nat) ({ cls := "java/util/ArrayList", name := "add", desc := "(Ljava/lang/Object;)Z" } : Jvm.MethodName)) ∈ lw_all := lw_g (lw_at lw_m9 5 rfl) rfl
theorem q2507 : (Jvm.Cond.castable "TermsDesk$Parser" "java/lang/Object") ∈ lw_tbl := lw_at lw_m11 39 rfl
theorem in_X14 : ∀ w ∈ wsX140, w ∈ lw_all := lw_in wsX140 [1896, 1898] (by decide +kernel) (by decide +kernel)
/-! TermsDesk$SyntaxException -/
set_option maxRecDepth 100000
def RX15 : String := "TermsDesk$SyntaxException"
def TX15 : u_T := fun k => match k with
  | 0 => ("java/lang/Throwable", "cause", "Ljava/lang/Throwable;", false)
  | 1 => ("java/lang/Throwable", "stackTrace", "[Ljava/lang/StackTraceElement;", false)
  | 2 => ("java/lang/Throwable", "suppressedExceptions", "Ljava/util/List;", false)
  | 3 => ("java/lang/Throwable", "detailMessage", "Ljava/lang/String;", false)
  | 4 => ("java/lang/Throwable", "backtrace", "Ljava/lang/Object;", false)
  | 5 => ("java/lang/Throwable", "depth", "I", false)
  | _ => ("TermsDesk$SyntaxException", "position", "I", true)
def tyX15 : Nat → FieldType := fun k => match k with
  | 0 => .object "java/lang/Throwable"
  | 1 => .array (.object "java/lang/StackTraceElement")
  | 2 => .object "java/util/List"
  | 3 => .object "java/lang/String"
  | 4 => .object "java/lang/Object"
  | 5 => .int
  | _ => .int
abbrev wsX150 : List Cond := u_ws RX15 TX15 7
theorem nmX15 : ∀ a, a < 7 → ∀ b, b < 7 → a ≠ b → (TX15 a).2.1 ≠ (TX15 b).2.1 := by decide +kernel
theorem tyX15_ok : ∀ k, k < 7 → parseFieldDescriptor (TX15 k).2.2.1 = some (tyX15 k) := by decide +kernel
abbrev cX15_init : ByteArray := prog_14_method_1_code
def yX15_init : MethodName := ⟨RX15, "<init>", "(I)V"⟩
def dkwX15_init_0 : List UInt8 := [42, 1, 1, 3, 3, 183, 0, 1, 42, 27, 181, 0, 7, 177]
abbrev dktX15_init_0 : List UInt8 := dkwX15_init_0 ++ []
theorem dksX15_init_0 : cX15_init.data.toList.drop 0 = dktX15_init_0 := by decide +kernel
theorem dX15_init_0 : decode cX15_init 0 = .ok (.aload_n 0, 1) := dk_42 (dk_at dksX15_init_0 0 rfl rfl)
theorem dX15_init_1 : decode cX15_init 1 = .ok (.aconst_null, 1) := dk_1 (dk_at dksX15_init_0 1 rfl rfl)
theorem dX15_init_2 : decode cX15_init 2 = .ok (.aconst_null, 1) := dk_1 (dk_at dksX15_init_0 2 rfl rfl)
theorem dX15_init_3 : decode cX15_init 3 = .ok (.iconst 0, 1) := dk_3 (dk_at dksX15_init_0 3 rfl rfl)
theorem dX15_init_4 : decode cX15_init 4 = .ok (.iconst 0, 1) := dk_3 (dk_at dksX15_init_0 4 rfl rfl)
theorem dX15_init_5 : decode cX15_init 5 = .ok (.invokespecial 1, 3) := dk_183 0 1 (dk_at dksX15_init_0 5 rfl rfl)
theorem dX15_init_8 : decode cX15_init 8 = .ok (.aload_n 0, 1) := dk_42 (dk_at dksX15_init_0 8 rfl rfl)
theorem dX15_init_9 : decode cX15_init 9 = .ok (.iload_n 1, 1) := dk_27 (dk_at dksX15_init_0 9 rfl rfl)
theorem dX15_init_10 : decode cX15_init 10 = .ok (.putfield 7, 3) := dk_181 0 7 (dk_at dksX15_init_0 10 rfl rfl)
theorem dX15_init_13 : decode cX15_init 13 = .ok (.return_, 1) := dk_177 (dk_at dksX15_init_0 13 rfl rfl)
theorem q114 : (Jvm.Cond.initialized "TermsDesk$SyntaxException") ∈ lw_all := lw_g (lw_at lw_m1 46 rfl) rfl
theorem q348 : (Jvm.Cond.selects "TermsDesk$SyntaxException" ({ cls := "java/lang/Throwable", name := "fillInStackTrace", desc := "()Ljava/lang/Throwable;" } : Jvm.MethodName) ({ cls := "java/lang/Throwable", name := "fillInStackTrace", desc := "()Ljava/lang/Throwable;" } : Jvm.MethodName)) ∈ lw_all := lw_g (lw_at lw_m2 40 rfl) rfl
theorem q745 : (Jvm.Cond.selects "TermsDesk$SyntaxException" ({ cls := "java/lang/Object", name := "getClass", desc := "()Ljava/lang/Class;" } : Jvm.MethodName) ({ cls := "java/lang/Object", name := "getClass", desc := "()Ljava/lang/Class;" } : Jvm.MethodName)) ∈ lw_all := lw_g (lw_at lw_m3 197 rfl) rfl
theorem q1951 : (Jvm.Cond.instantiable "TermsDesk$SyntaxException" (7 : Nat)) ∈ lw_all := lw_g (lw_at lw_m8 203 rfl) rfl
theorem q1952 : (Jvm.Cond.castable "TermsDesk$SyntaxException" "TermsDesk$SyntaxException") ∈ lw_tbl := lw_at lw_m8 204 rfl
theorem q1953 : (Jvm.Cond.selects "TermsDesk$SyntaxException" ({ cls := "java/lang/Throwable", name := "fillInStackTrace", desc := "(I)Ljava/lang/Throwable;" } : Jvm.MethodName) ({ cls := "java/lang/Throwable", name := "fillInStackTrace", desc := "(I)Ljava/lang/Throwable;" } : Jvm.MethodName)) ∈ lw_all := lw_g (lw_at lw_m8 205 rfl) rfl
theorem q1954 : (Jvm.Cond.lays "TermsDesk$SyntaxException" "java/lang/Throwable" "cause" "Ljava/lang/Throwable;") ∈ lw_all := lw_g (lw_at lw_m8 206 rfl) rfl
theorem q1955 : (Jvm.Cond.lays "TermsDesk$SyntaxException" "java/lang/Throwable" "stackTrace" "[Ljava/lang/StackTraceElement;") ∈ lw_all := lw_g (lw_at lw_m8 207 rfl) rfl
theorem q1956 : (Jvm.Cond.lays "TermsDesk$SyntaxException" "java/lang/Throwable" "suppressedExceptions" "Ljava/util/List;") ∈ lw_all := lw_g (lw_at lw_m8 208 rfl) rfl
theorem q1957 : (Jvm.Cond.lays "TermsDesk$SyntaxException" "java/lang/Throwable" "detailMessage" "Ljava/lang/String;") ∈ lw_all := lw_g (lw_at lw_m8 209 rfl) rfl
theorem q1958 : (Jvm.Cond.lays "TermsDesk$SyntaxException" "java/lang/Throwable" "backtrace" "Ljava/lang/Object;") ∈ lw_all := lw_g (lw_at lw_m8 210 rfl) rfl
theorem q1960 : (Jvm.Cond.instanceMethod ({ cls := "TermsDesk$SyntaxException", name := "<init>", desc := "(I)V" } : Jvm.MethodName)) ∈ lw_all := lw_g (lw_at lw_m8 212 rfl) rfl
theorem q1961 : (Jvm.Cond.code ({ cls := "TermsDesk$SyntaxException", name := "<init>", desc := "(I)V" } : Jvm.MethodName) prog_14_method_1_code (2 : Nat) (Option.none : Option Jvm.ClassFile.FieldType)) ∈ lw_all := lw_g (lw_at lw_m8 213 rfl) rfl
theorem q1962 : (Jvm.Cond.methodLink "TermsDesk$SyntaxException" (1 : Nat) ({ cls := "java/lang/Exception", name := "<init>", desc := "(Ljava/lang/String;Ljava/lang/Throwable;ZZ)V" } : Jvm.MethodName)) ∈ lw_all := lw_g (lw_at lw_m8 214 rfl) rfl
theorem q1963 : (Jvm.Cond.fieldLink "TermsDesk$SyntaxException" (7 : Nat) "TermsDesk$SyntaxException" "position" "I") ∈ lw_all := lw_g (lw_at lw_m8 215 rfl) rfl
theorem q1965 : (Jvm.Cond.laysFinal "TermsDesk$SyntaxException" "TermsDesk$SyntaxException" "position" "I") ∈ lw_all := lw_g (lw_at lw_m8 217 rfl) rfl
theorem q1966 : (Jvm.Cond.soleField "TermsDesk$SyntaxException" "position") ∈ lw_all := lw_g (lw_at lw_m8 218 rfl) rfl
theorem q1967 : (Jvm.Cond.lays "TermsDesk$SyntaxException" "java/lang/Throwable" "depth" "I") ∈ lw_all := lw_g (lw_at lw_m8 219 rfl) rfl
theorem q1968 : (Jvm.Cond.superclass "TermsDesk$SyntaxException" "java/lang/Exception") ∈ lw_all := lw_g (lw_at lw_m8 220 rfl) rfl
theorem q2508 : (Jvm.Cond.castable "TermsDesk$SyntaxException" "java/lang/Object") ∈ lw_tbl := lw_at lw_m11 40 rfl
theorem in_X15 : ∀ w ∈ wsX150, w ∈ lw_all := lw_in wsX150 [1954, 1955, 1956, 1957, 1958, 1967, 1965] (by decide +kernel) (by decide +kernel)
/-! TermsDesk$Item -/
set_option maxRecDepth 100000
def RX16 : String := "TermsDesk$Item"
def TX16 : u_T := fun k => match k with
  | 0 => ("TermsDesk$Item", "sign", "C", true)
  | 1 => ("TermsDesk$Item", "first", "I", true)
  | _ => ("TermsDesk$Item", "second", "I", true)
def tyX16 : Nat → FieldType := fun k => match k with
  | 0 => .char
  | 1 => .int
  | _ => .int
abbrev wsX160 : List Cond := u_ws RX16 TX16 3
theorem nmX16 : ∀ a, a < 3 → ∀ b, b < 3 → a ≠ b → (TX16 a).2.1 ≠ (TX16 b).2.1 := by decide +kernel
theorem tyX16_ok : ∀ k, k < 3 → parseFieldDescriptor (TX16 k).2.2.1 = some (tyX16 k) := by decide +kernel
abbrev cX16_init : ByteArray := prog_7_method_1_code
def yX16_init : MethodName := ⟨RX16, "<init>", "(CII)V"⟩
def dkwX16_init_0 : List UInt8 := [42, 183, 0, 1, 42, 27, 181, 0, 7, 42, 28, 181, 0, 13, 42, 29, 181, 0, 17, 177]
abbrev dktX16_init_0 : List UInt8 := dkwX16_init_0 ++ []
theorem dksX16_init_0 : cX16_init.data.toList.drop 0 = dktX16_init_0 := by decide +kernel
theorem dX16_init_0 : decode cX16_init 0 = .ok (.aload_n 0, 1) := dk_42 (dk_at dksX16_init_0 0 rfl rfl)
theorem dX16_init_1 : decode cX16_init 1 = .ok (.invokespecial 1, 3) := dk_183 0 1 (dk_at dksX16_init_0 1 rfl rfl)
theorem dX16_init_4 : decode cX16_init 4 = .ok (.aload_n 0, 1) := dk_42 (dk_at dksX16_init_0 4 rfl rfl)
theorem dX16_init_5 : decode cX16_init 5 = .ok (.iload_n 1, 1) := dk_27 (dk_at dksX16_init_0 5 rfl rfl)
theorem dX16_init_6 : decode cX16_init 6 = .ok (.putfield 7, 3) := dk_181 0 7 (dk_at dksX16_init_0 6 rfl rfl)
theorem dX16_init_9 : decode cX16_init 9 = .ok (.aload_n 0, 1) := dk_42 (dk_at dksX16_init_0 9 rfl rfl)
theorem dX16_init_10 : decode cX16_init 10 = .ok (.iload_n 2, 1) := dk_28 (dk_at dksX16_init_0 10 rfl rfl)
theorem dX16_init_11 : decode cX16_init 11 = .ok (.putfield 13, 3) := dk_181 0 13 (dk_at dksX16_init_0 11 rfl rfl)
theorem dX16_init_14 : decode cX16_init 14 = .ok (.aload_n 0, 1) := dk_42 (dk_at dksX16_init_0 14 rfl rfl)
theorem dX16_init_15 : decode cX16_init 15 = .ok (.iload_n 3, 1) := dk_29 (dk_at dksX16_init_0 15 rfl rfl)
theorem dX16_init_16 : decode cX16_init 16 = .ok (.putfield 17, 3) := dk_181 0 17 (dk_at dksX16_init_0 16 rfl rfl)
theorem dX16_init_19 : decode cX16_init 19 = .ok (.return_, 1) := dk_177 (dk_at dksX16_init_0 19 rfl rfl)
abbrev cX16_carryOut : ByteArray := prog_7_method_2_code
def yX16_carryOut : MethodName := ⟨RX16, "carryOut", "(LTermsDesk$Desk;)I"⟩
def dkwX16_carryOut_6 : List UInt8 := [182, 0, 52, 192, 0, 32, 77, 43, 42, 180, 0, 13, 182, 0, 56, 172]
abbrev dktX16_carryOut_6 : List UInt8 := dkwX16_carryOut_6 ++ []
def dkwX16_carryOut_5 : List UInt8 := [167, 0, 4, 3, 172, 43, 42, 180, 0, 13, 182, 0, 48, 172, 43, 180, 0, 26, 42, 180, 0, 13]
abbrev dktX16_carryOut_5 : List UInt8 := dkwX16_carryOut_5 ++ dktX16_carryOut_6
def dkwX16_carryOut_4 : List UInt8 := [167, 0, 4, 3, 172, 43, 42, 180, 0, 13, 42, 180, 0, 17, 4, 182, 0, 45, 153, 0, 7, 4]
abbrev dktX16_carryOut_4 : List UInt8 := dkwX16_carryOut_4 ++ dktX16_carryOut_5
def dkwX16_carryOut_3 : List UInt8 := [183, 0, 34, 182, 0, 35, 172, 43, 42, 180, 0, 13, 42, 180, 0, 17, 4, 182, 0, 41, 153, 0, 7, 4]
abbrev dktX16_carryOut_3 : List UInt8 := dkwX16_carryOut_3 ++ dktX16_carryOut_4
def dkwX16_carryOut_2 : List UInt8 := [43, 42, 180, 0, 13, 42, 180, 0, 17, 4, 184, 0, 20, 172, 43, 180, 0, 26, 187, 0, 32, 89]
abbrev dktX16_carryOut_2 : List UInt8 := dkwX16_carryOut_2 ++ dktX16_carryOut_3
def dkwX16_carryOut_1 : List UInt8 := [171, 0, 0, 0, 0, 0, 0, 134, 0, 0, 0, 5, 0, 0, 0, 102, 0, 0, 0, 52, 0, 0, 0, 106, 0, 0, 0, 81, 0, 0, 0, 107, 0, 0, 0, 103, 0, 0, 0, 117, 0, 0, 0, 125, 0, 0, 0, 119, 0, 0, 0, 66]
abbrev dktX16_carryOut_1 : List UInt8 := dkwX16_carryOut_1 ++ dktX16_carryOut_2
def dkwX16_carryOut_0 : List UInt8 := [42, 180, 0, 7]
abbrev dktX16_carryOut_0 : List UInt8 := dkwX16_carryOut_0 ++ dktX16_carryOut_1
theorem dksX16_carryOut_0 : cX16_carryOut.data.toList.drop 0 = dktX16_carryOut_0 := by decide +kernel
theorem dksX16_carryOut_1 : cX16_carryOut.data.toList.drop 4 = dktX16_carryOut_1 := dk_seg dksX16_carryOut_0 4 rfl rfl
theorem dksX16_carryOut_2 : cX16_carryOut.data.toList.drop 56 = dktX16_carryOut_2 := dk_seg dksX16_carryOut_1 52 rfl rfl
theorem dksX16_carryOut_3 : cX16_carryOut.data.toList.drop 78 = dktX16_carryOut_3 := dk_seg dksX16_carryOut_2 22 rfl rfl
theorem dksX16_carryOut_4 : cX16_carryOut.data.toList.drop 102 = dktX16_carryOut_4 := dk_seg dksX16_carryOut_3 24 rfl rfl
theorem dksX16_carryOut_5 : cX16_carryOut.data.toList.drop 124 = dktX16_carryOut_5 := dk_seg dksX16_carryOut_4 22 rfl rfl
theorem dksX16_carryOut_6 : cX16_carryOut.data.toList.drop 146 = dktX16_carryOut_6 := dk_seg dksX16_carryOut_5 22 rfl rfl
theorem dX16_carryOut_0 : decode cX16_carryOut 0 = .ok (.aload_n 0, 1) := dk_42 (dk_at dksX16_carryOut_0 0 rfl rfl)
theorem dX16_carryOut_1 : decode cX16_carryOut 1 = .ok (.getfield 7, 3) := dk_180 0 7 (dk_at dksX16_carryOut_0 1 rfl rfl)
theorem dX16_carryOut_4 : decode cX16_carryOut 4 = .ok (.lookupswitch 134 #[(102, 52), (106, 81), (107, 103), (117, 125), (119, 66)], 52) := by decide +kernel
theorem dX16_carryOut_56 : decode cX16_carryOut 56 = .ok (.aload_n 1, 1) := dk_43 (dk_at dksX16_carryOut_2 0 rfl rfl)
theorem dX16_carryOut_57 : decode cX16_carryOut 57 = .ok (.aload_n 0, 1) := dk_42 (dk_at dksX16_carryOut_2 1 rfl rfl)
theorem dX16_carryOut_58 : decode cX16_carryOut 58 = .ok (.getfield 13, 3) := dk_180 0 13 (dk_at dksX16_carryOut_2 2 rfl rfl)
theorem dX16_carryOut_61 : decode cX16_carryOut 61 = .ok (.aload_n 0, 1) := dk_42 (dk_at dksX16_carryOut_2 5 rfl rfl)
theorem dX16_carryOut_62 : decode cX16_carryOut 62 = .ok (.getfield 17, 3) := dk_180 0 17 (dk_at dksX16_carryOut_2 6 rfl rfl)
theorem dX16_carryOut_65 : decode cX16_carryOut 65 = .ok (.iconst 1, 1) := dk_4 (dk_at dksX16_carryOut_2 9 rfl rfl)
theorem dX16_carryOut_66 : decode cX16_carryOut 66 = .ok (.invokestatic 20, 3) := dk_184 0 20 (dk_at dksX16_carryOut_2 10 rfl rfl)
theorem dX16_carryOut_69 : decode cX16_carryOut 69 = .ok (.ireturn, 1) := dk_172 (dk_at dksX16_carryOut_2 13 rfl rfl)
theorem dX16_carryOut_70 : decode cX16_carryOut 70 = .ok (.aload_n 1, 1) := dk_43 (dk_at dksX16_carryOut_2 14 rfl rfl)
theorem dX16_carryOut_71 : decode cX16_carryOut 71 = .ok (.getfield 26, 3) := dk_180 0 26 (dk_at dksX16_carryOut_2 15 rfl rfl)
theorem dX16_carryOut_74 : decode cX16_carryOut 74 = .ok (.new 32, 3) := dk_187 0 32 (dk_at dksX16_carryOut_2 18 rfl rfl)
theorem dX16_carryOut_77 : decode cX16_carryOut 77 = .ok (.dup, 1) := dk_89 (dk_at dksX16_carryOut_2 21 rfl rfl)
theorem dX16_carryOut_78 : decode cX16_carryOut 78 = .ok (.invokespecial 34, 3) := dk_183 0 34 (dk_at dksX16_carryOut_3 0 rfl rfl)
theorem dX16_carryOut_81 : decode cX16_carryOut 81 = .ok (.invokevirtual 35, 3) := dk_182 0 35 (dk_at dksX16_carryOut_3 3 rfl rfl)
theorem dX16_carryOut_84 : decode cX16_carryOut 84 = .ok (.ireturn, 1) := dk_172 (dk_at dksX16_carryOut_3 6 rfl rfl)
theorem dX16_carryOut_85 : decode cX16_carryOut 85 = .ok (.aload_n 1, 1) := dk_43 (dk_at dksX16_carryOut_3 7 rfl rfl)
theorem dX16_carryOut_86 : decode cX16_carryOut 86 = .ok (.aload_n 0, 1) := dk_42 (dk_at dksX16_carryOut_3 8 rfl rfl)
theorem dX16_carryOut_87 : decode cX16_carryOut 87 = .ok (.getfield 13, 3) := dk_180 0 13 (dk_at dksX16_carryOut_3 9 rfl rfl)
theorem dX16_carryOut_90 : decode cX16_carryOut 90 = .ok (.aload_n 0, 1) := dk_42 (dk_at dksX16_carryOut_3 12 rfl rfl)
theorem dX16_carryOut_91 : decode cX16_carryOut 91 = .ok (.getfield 17, 3) := dk_180 0 17 (dk_at dksX16_carryOut_3 13 rfl rfl)
theorem dX16_carryOut_94 : decode cX16_carryOut 94 = .ok (.iconst 1, 1) := dk_4 (dk_at dksX16_carryOut_3 16 rfl rfl)
theorem dX16_carryOut_95 : decode cX16_carryOut 95 = .ok (.invokevirtual 41, 3) := dk_182 0 41 (dk_at dksX16_carryOut_3 17 rfl rfl)
theorem dX16_carryOut_98 : decode cX16_carryOut 98 = .ok (.ifCond .eq 7, 3) := dk_153 0 7 (dk_at dksX16_carryOut_3 20 rfl rfl)
theorem dX16_carryOut_101 : decode cX16_carryOut 101 = .ok (.iconst 1, 1) := dk_4 (dk_at dksX16_carryOut_3 23 rfl rfl)
theorem dX16_carryOut_102 : decode cX16_carryOut 102 = .ok (.goto 4, 3) := dk_167 0 4 (dk_at dksX16_carryOut_4 0 rfl rfl)
theorem dX16_carryOut_105 : decode cX16_carryOut 105 = .ok (.iconst 0, 1) := dk_3 (dk_at dksX16_carryOut_4 3 rfl rfl)
theorem dX16_carryOut_106 : decode cX16_carryOut 106 = .ok (.ireturn, 1) := dk_172 (dk_at dksX16_carryOut_4 4 rfl rfl)
theorem dX16_carryOut_107 : decode cX16_carryOut 107 = .ok (.aload_n 1, 1) := dk_43 (dk_at dksX16_carryOut_4 5 rfl rfl)
theorem dX16_carryOut_108 : decode cX16_carryOut 108 = .ok (.aload_n 0, 1) := dk_42 (dk_at dksX16_carryOut_4 6 rfl rfl)
theorem dX16_carryOut_109 : decode cX16_carryOut 109 = .ok (.getfield 13, 3) := dk_180 0 13 (dk_at dksX16_carryOut_4 7 rfl rfl)
theorem dX16_carryOut_112 : decode cX16_carryOut 112 = .ok (.aload_n 0, 1) := dk_42 (dk_at dksX16_carryOut_4 10 rfl rfl)
theorem dX16_carryOut_113 : decode cX16_carryOut 113 = .ok (.getfield 17, 3) := dk_180 0 17 (dk_at dksX16_carryOut_4 11 rfl rfl)
theorem dX16_carryOut_116 : decode cX16_carryOut 116 = .ok (.iconst 1, 1) := dk_4 (dk_at dksX16_carryOut_4 14 rfl rfl)
theorem dX16_carryOut_117 : decode cX16_carryOut 117 = .ok (.invokevirtual 45, 3) := dk_182 0 45 (dk_at dksX16_carryOut_4 15 rfl rfl)
theorem dX16_carryOut_120 : decode cX16_carryOut 120 = .ok (.ifCond .eq 7, 3) := dk_153 0 7 (dk_at dksX16_carryOut_4 18 rfl rfl)
theorem dX16_carryOut_123 : decode cX16_carryOut 123 = .ok (.iconst 1, 1) := dk_4 (dk_at dksX16_carryOut_4 21 rfl rfl)
theorem dX16_carryOut_124 : decode cX16_carryOut 124 = .ok (.goto 4, 3) := dk_167 0 4 (dk_at dksX16_carryOut_5 0 rfl rfl)
theorem dX16_carryOut_127 : decode cX16_carryOut 127 = .ok (.iconst 0, 1) := dk_3 (dk_at dksX16_carryOut_5 3 rfl rfl)
theorem dX16_carryOut_128 : decode cX16_carryOut 128 = .ok (.ireturn, 1) := dk_172 (dk_at dksX16_carryOut_5 4 rfl rfl)
theorem dX16_carryOut_129 : decode cX16_carryOut 129 = .ok (.aload_n 1, 1) := dk_43 (dk_at dksX16_carryOut_5 5 rfl rfl)
theorem dX16_carryOut_130 : decode cX16_carryOut 130 = .ok (.aload_n 0, 1) := dk_42 (dk_at dksX16_carryOut_5 6 rfl rfl)
theorem dX16_carryOut_131 : decode cX16_carryOut 131 = .ok (.getfield 13, 3) := dk_180 0 13 (dk_at dksX16_carryOut_5 7 rfl rfl)
theorem dX16_carryOut_134 : decode cX16_carryOut 134 = .ok (.invokevirtual 48, 3) := dk_182 0 48 (dk_at dksX16_carryOut_5 10 rfl rfl)
theorem dX16_carryOut_137 : decode cX16_carryOut 137 = .ok (.ireturn, 1) := dk_172 (dk_at dksX16_carryOut_5 13 rfl rfl)
theorem dX16_carryOut_138 : decode cX16_carryOut 138 = .ok (.aload_n 1, 1) := dk_43 (dk_at dksX16_carryOut_5 14 rfl rfl)
theorem dX16_carryOut_139 : decode cX16_carryOut 139 = .ok (.getfield 26, 3) := dk_180 0 26 (dk_at dksX16_carryOut_5 15 rfl rfl)
theorem dX16_carryOut_142 : decode cX16_carryOut 142 = .ok (.aload_n 0, 1) := dk_42 (dk_at dksX16_carryOut_5 18 rfl rfl)
theorem dX16_carryOut_143 : decode cX16_carryOut 143 = .ok (.getfield 13, 3) := dk_180 0 13 (dk_at dksX16_carryOut_5 19 rfl rfl)
theorem dX16_carryOut_146 : decode cX16_carryOut 146 = .ok (.invokevirtual 52, 3) := dk_182 0 52 (dk_at dksX16_carryOut_6 0 rfl rfl)
theorem dX16_carryOut_149 : decode cX16_carryOut 149 = .ok (.checkcast 32, 3) := dk_192 0 32 (dk_at dksX16_carryOut_6 3 rfl rfl)
theorem dX16_carryOut_152 : decode cX16_carryOut 152 = .ok (.astore_n 2, 1) := dk_77 (dk_at dksX16_carryOut_6 6 rfl rfl)
theorem dX16_carryOut_153 : decode cX16_carryOut 153 = .ok (.aload_n 1, 1) := dk_43 (dk_at dksX16_carryOut_6 7 rfl rfl)
theorem dX16_carryOut_154 : decode cX16_carryOut 154 = .ok (.aload_n 0, 1) := dk_42 (dk_at dksX16_carryOut_6 8 rfl rfl)
theorem dX16_carryOut_155 : decode cX16_carryOut 155 = .ok (.getfield 13, 3) := dk_180 0 13 (dk_at dksX16_carryOut_6 9 rfl rfl)
theorem dX16_carryOut_158 : decode cX16_carryOut 158 = .ok (.invokevirtual 56, 3) := dk_182 0 56 (dk_at dksX16_carryOut_6 12 rfl rfl)
theorem dX16_carryOut_161 : decode cX16_carryOut 161 = .ok (.ireturn, 1) := dk_172 (dk_at dksX16_carryOut_6 15 rfl rfl)
theorem q115 : (Jvm.Cond.initialized "TermsDesk$Item") ∈ lw_all := lw_g (lw_at lw_m1 47 rfl) rfl
theorem q179 : (Jvm.Cond.fieldLinkNest "TermsDesk$Item" (26 : Nat) "TermsDesk$Desk" "works" "LTermsDesk$Shelf;" "TermsDesk") ∈ lw_tbl := lw_at lw_m1 111 rfl
theorem q738 : (Jvm.Cond.selects "TermsDesk$Item" ({ cls := "java/lang/Object", name := "getClass", desc := "()Ljava/lang/Class;" } : Jvm.MethodName) ({ cls := "java/lang/Object", name := "getClass", desc := "()Ljava/lang/Class;" } : Jvm.MethodName)) ∈ lw_all := lw_g (lw_at lw_m3 190 rfl) rfl
theorem q1974 : (Jvm.Cond.instantiable "TermsDesk$Item" (3 : Nat)) ∈ lw_all := lw_g (lw_at lw_m8 226 rfl) rfl
theorem q1980 : (Jvm.Cond.instanceMethod ({ cls := "TermsDesk$Item", name := "<init>", desc := "(CII)V" } : Jvm.MethodName)) ∈ lw_all := lw_g (lw_at lw_m8 232 rfl) rfl
theorem q1981 : (Jvm.Cond.code ({ cls := "TermsDesk$Item", name := "<init>", desc := "(CII)V" } : Jvm.MethodName) prog_7_method_1_code (4 : Nat) (Option.none : Option Jvm.ClassFile.FieldType)) ∈ lw_all := lw_g (lw_at lw_m8 233 rfl) rfl
theorem q1982 : (Jvm.Cond.methodLink "TermsDesk$Item" (1 : Nat) ({ cls := "java/lang/Object", name := "<init>", desc := "()V" } : Jvm.MethodName)) ∈ lw_all := lw_g (lw_at lw_m8 234 rfl) rfl
theorem q1983 : (Jvm.Cond.fieldLink "TermsDesk$Item" (7 : Nat) "TermsDesk$Item" "sign" "C") ∈ lw_all := lw_g (lw_at lw_m8 235 rfl) rfl
theorem q1984 : (Jvm.Cond.fieldLink "TermsDesk$Item" (13 : Nat) "TermsDesk$Item" "first" "I") ∈ lw_all := lw_g (lw_at lw_m8 236 rfl) rfl
theorem q1985 : (Jvm.Cond.fieldLink "TermsDesk$Item" (17 : Nat) "TermsDesk$Item" "second" "I") ∈ lw_all := lw_g (lw_at lw_m8 237 rfl) rfl
theorem q1986 : (Jvm.Cond.laysFinal "TermsDesk$Item" "TermsDesk$Item" "sign" "C") ∈ lw_all := lw_g (lw_at lw_m8 238 rfl) rfl
theorem q1987 : (Jvm.Cond.soleField "TermsDesk$Item" "sign") ∈ lw_all := lw_g (lw_at lw_m8 239 rfl) rfl
theorem q1988 : (Jvm.Cond.laysFinal "TermsDesk$Item" "TermsDesk$Item" "first" "I") ∈ lw_all := lw_g (lw_at lw_m9 0 rfl) rfl
theorem q1989 : (Jvm.Cond.soleField "TermsDesk$Item" "first") ∈ lw_all := lw_g (lw_at lw_m9 1 rfl) rfl
theorem q1990 : (Jvm.Cond.laysFinal "TermsDesk$Item" "TermsDesk$Item" "second" "I") ∈ lw_all := lw_g (lw_at lw_m9 2 rfl) rfl
theorem q1991 : (Jvm.Cond.soleField "TermsDesk$Item" "second") ∈ lw_all := lw_g (lw_at lw_m9 3 rfl) rfl
theorem q1992 : (Jvm.Cond.superclass "TermsDesk$Item" "java/lang/Object") ∈ lw_all := lw_g (lw_at lw_m9 4 rfl) rfl
theorem q1997 : (Jvm.Cond.instanceMethod ({ cls := "TermsDesk$Item", name := "carryOut", desc := "(LTermsDesk$Desk;)I" } : Jvm.MethodName)) ∈ lw_all := lw_g (lw_at lw_m9 9 rfl) rfl
theorem q1998 : (Jvm.Cond.selects "TermsDesk$Item" ({ cls := "TermsDesk$Item", name := "carryOut", desc := "(LTermsDesk$Desk;)I" } : Jvm.MethodName) ({ cls := "TermsDesk$Item", name := "carryOut", desc := "(LTermsDesk$Desk;)I" } : Jvm.MethodName)) ∈ lw_all := lw_g (lw_at lw_m9 10 rfl) rfl
theorem q1999 : (Jvm.Cond.code ({ cls := "TermsDesk$Item", name := "carryOut", desc := "(LTermsDesk$Desk;)I" } : Jvm.MethodName) prog_7_method_2_code (3 : Nat) (Option.some Jvm.ClassFile.FieldType.int)) ∈ lw_all := lw_g (lw_at lw_m9 11 rfl) rfl
theorem q2000 : (Jvm.Cond.methodLinkNest "TermsDesk$Item" (20 : Nat) ({ cls := "TermsDesk", name := "addFile", desc := "(LTermsDesk$Desk;III)I" } : Jvm.MethodName) "TermsDesk") ∈ lw_tbl := lw_at lw_m9 12 rfl
theorem q2001 : (Jvm.Cond.classLink "TermsDesk$Item" (32 : Nat) "TermsDesk$Work") ∈ lw_all := lw_g (lw_at lw_m9 13 rfl) rfl
theorem q2002 : (Jvm.Cond.methodLinkNest "TermsDesk$Item" (34 : Nat) ({ cls := "TermsDesk$Work", name := "<init>", desc := "()V" } : Jvm.MethodName) "TermsDesk") ∈ lw_tbl := lw_at lw_m9 14 rfl
theorem q2003 : (Jvm.Cond.methodLink "TermsDesk$Item" (35 : Nat) ({ cls := "TermsDesk$Shelf", name := "add", desc := "(Ljava/lang/Object;)I" } : Jvm.MethodName)) ∈ lw_all := lw_g (lw_at lw_m9 15 rfl) rfl
theorem q2004 : (Jvm.Cond.methodLink "TermsDesk$Item" (41 : Nat) ({ cls := "TermsDesk$Desk", name := "join", desc := "(IIZ)Z" } : Jvm.MethodName)) ∈ lw_all := lw_g (lw_at lw_m9 16 rfl) rfl
theorem q2005 : (Jvm.Cond.methodLink "TermsDesk$Item" (45 : Nat) ({ cls := "TermsDesk$Desk", name := "link", desc := "(IIZ)Z" } : Jvm.MethodName)) ∈ lw_all := lw_g (lw_at lw_m9 17 rfl) rfl
theorem q2006 : (Jvm.Cond.methodLink "TermsDesk$Item" (48 : Nat) ({ cls := "TermsDesk$Desk", name := "flip", desc := "(I)I" } : Jvm.MethodName)) ∈ lw_all := lw_g (lw_at lw_m9 18 rfl) rfl
theorem q2007 : (Jvm.Cond.methodLink "TermsDesk$Item" (52 : Nat) ({ cls := "TermsDesk$Shelf", name := "get", desc := "(I)Ljava/lang/Object;" } : Jvm.MethodName)) ∈ lw_all := lw_g (lw_at lw_m9 19 rfl) rfl
theorem q2008 : (Jvm.Cond.methodLink "TermsDesk$Item" (56 : Nat) ({ cls := "TermsDesk$Desk", name := "ship", desc := "(I)I" } : Jvm.MethodName)) ∈ lw_all := lw_g (lw_at lw_m9 20 rfl) rfl
theorem q2509 : (Jvm.Cond.castable "TermsDesk$Item" "java/lang/Object") ∈ lw_tbl := lw_at lw_m11 41 rfl
theorem in_X16 : ∀ w ∈ wsX160, w ∈ lw_all := lw_in wsX160 [1986, 1988, 1990] (by decide +kernel) (by decide +kernel)
/-! TermsDesk$Desk -/
set_option maxRecDepth 100000
def RX2 : String := "TermsDesk$Desk"
def TX2 : u_T := fun k => match k with
  | 0 => ("TermsDesk$Desk", "licences", "LTermsDesk$Shelf;", false)
  | 1 => ("TermsDesk$Desk", "files", "LTermsDesk$Shelf;", false)
  | _ => ("TermsDesk$Desk", "works", "LTermsDesk$Shelf;", false)
def tyX2 : Nat → FieldType := fun k => match k with
  | 0 => .object "TermsDesk$Shelf"
  | 1 => .object "TermsDesk$Shelf"
  | _ => .object "TermsDesk$Shelf"
abbrev wsX20 : List Cond := u_ws RX2 TX2 3
theorem nmX2 : ∀ a, a < 3 → ∀ b, b < 3 → a ≠ b → (TX2 a).2.1 ≠ (TX2 b).2.1 := by decide +kernel
theorem tyX2_ok : ∀ k, k < 3 → parseFieldDescriptor (TX2 k).2.2.1 = some (tyX2 k) := by decide +kernel
abbrev cX2_init : ByteArray := prog_6_method_1_code
def yX2_init : MethodName := ⟨RX2, "<init>", "()V"⟩
def dkwX2_init_1 : List UInt8 := [183, 0, 11, 181, 0, 20, 42, 187, 0, 9, 89, 16, 6, 183, 0, 11, 181, 0, 23, 177]
abbrev dktX2_init_1 : List UInt8 := dkwX2_init_1 ++ []
def dkwX2_init_0 : List UInt8 := [42, 183, 0, 3, 42, 187, 0, 9, 89, 16, 8, 183, 0, 11, 181, 0, 14, 42, 187, 0, 9, 89, 16, 10]
abbrev dktX2_init_0 : List UInt8 := dkwX2_init_0 ++ dktX2_init_1
theorem dksX2_init_0 : cX2_init.data.toList.drop 0 = dktX2_init_0 := by decide +kernel
theorem dksX2_init_1 : cX2_init.data.toList.drop 24 = dktX2_init_1 := dk_seg dksX2_init_0 24 rfl rfl
theorem dX2_init_0 : decode cX2_init 0 = .ok (.aload_n 0, 1) := dk_42 (dk_at dksX2_init_0 0 rfl rfl)
theorem dX2_init_1 : decode cX2_init 1 = .ok (.invokespecial 3, 3) := dk_183 0 3 (dk_at dksX2_init_0 1 rfl rfl)
theorem dX2_init_4 : decode cX2_init 4 = .ok (.aload_n 0, 1) := dk_42 (dk_at dksX2_init_0 4 rfl rfl)
theorem dX2_init_5 : decode cX2_init 5 = .ok (.new 9, 3) := dk_187 0 9 (dk_at dksX2_init_0 5 rfl rfl)
theorem dX2_init_8 : decode cX2_init 8 = .ok (.dup, 1) := dk_89 (dk_at dksX2_init_0 8 rfl rfl)
theorem dX2_init_9 : decode cX2_init 9 = .ok (.bipush 8, 2) := dk_16 8 (dk_at dksX2_init_0 9 rfl rfl)
theorem dX2_init_11 : decode cX2_init 11 = .ok (.invokespecial 11, 3) := dk_183 0 11 (dk_at dksX2_init_0 11 rfl rfl)
theorem dX2_init_14 : decode cX2_init 14 = .ok (.putfield 14, 3) := dk_181 0 14 (dk_at dksX2_init_0 14 rfl rfl)
theorem dX2_init_17 : decode cX2_init 17 = .ok (.aload_n 0, 1) := dk_42 (dk_at dksX2_init_0 17 rfl rfl)
theorem dX2_init_18 : decode cX2_init 18 = .ok (.new 9, 3) := dk_187 0 9 (dk_at dksX2_init_0 18 rfl rfl)
theorem dX2_init_21 : decode cX2_init 21 = .ok (.dup, 1) := dk_89 (dk_at dksX2_init_0 21 rfl rfl)
theorem dX2_init_22 : decode cX2_init 22 = .ok (.bipush 10, 2) := dk_16 10 (dk_at dksX2_init_0 22 rfl rfl)
theorem dX2_init_24 : decode cX2_init 24 = .ok (.invokespecial 11, 3) := dk_183 0 11 (dk_at dksX2_init_1 0 rfl rfl)
theorem dX2_init_27 : decode cX2_init 27 = .ok (.putfield 20, 3) := dk_181 0 20 (dk_at dksX2_init_1 3 rfl rfl)
theorem dX2_init_30 : decode cX2_init 30 = .ok (.aload_n 0, 1) := dk_42 (dk_at dksX2_init_1 6 rfl rfl)
theorem dX2_init_31 : decode cX2_init 31 = .ok (.new 9, 3) := dk_187 0 9 (dk_at dksX2_init_1 7 rfl rfl)
theorem dX2_init_34 : decode cX2_init 34 = .ok (.dup, 1) := dk_89 (dk_at dksX2_init_1 10 rfl rfl)
theorem dX2_init_35 : decode cX2_init 35 = .ok (.bipush 6, 2) := dk_16 6 (dk_at dksX2_init_1 11 rfl rfl)
theorem dX2_init_37 : decode cX2_init 37 = .ok (.invokespecial 11, 3) := dk_183 0 11 (dk_at dksX2_init_1 13 rfl rfl)
theorem dX2_init_40 : decode cX2_init 40 = .ok (.putfield 23, 3) := dk_181 0 23 (dk_at dksX2_init_1 16 rfl rfl)
theorem dX2_init_43 : decode cX2_init 43 = .ok (.return_, 1) := dk_177 (dk_at dksX2_init_1 19 rfl rfl)
abbrev cX2_isConsistent : ByteArray := prog_6_method_28_code
def yX2_isConsistent : MethodName := ⟨RX2, "isConsistent", "()Z"⟩
def dkwX2_isConsistent_2 : List UInt8 := [160, 0, 7, 4, 167, 0, 4, 3, 126, 60, 132, 2, 1, 167, 255, 200, 27, 172]
abbrev dktX2_isConsistent_2 : List UInt8 := dkwX2_isConsistent_2 ++ []
def dkwX2_isConsistent_1 : List UInt8 := [45, 182, 0, 121, 182, 0, 243, 182, 0, 247, 153, 0, 20, 42, 28, 182, 0, 240, 42, 28, 182, 0, 86]
abbrev dktX2_isConsistent_1 : List UInt8 := dkwX2_isConsistent_1 ++ dktX2_isConsistent_2
def dkwX2_isConsistent_0 : List UInt8 := [4, 60, 3, 61, 28, 42, 180, 0, 23, 182, 0, 73, 162, 0, 51, 42, 28, 7, 182, 0, 117, 78, 27, 45]
abbrev dktX2_isConsistent_0 : List UInt8 := dkwX2_isConsistent_0 ++ dktX2_isConsistent_1
theorem dksX2_isConsistent_0 : cX2_isConsistent.data.toList.drop 0 = dktX2_isConsistent_0 := by decide +kernel
theorem dksX2_isConsistent_1 : cX2_isConsistent.data.toList.drop 24 = dktX2_isConsistent_1 := dk_seg dksX2_isConsistent_0 24 rfl rfl
theorem dksX2_isConsistent_2 : cX2_isConsistent.data.toList.drop 47 = dktX2_isConsistent_2 := dk_seg dksX2_isConsistent_1 23 rfl rfl
theorem dX2_isConsistent_0 : decode cX2_isConsistent 0 = .ok (.iconst 1, 1) := dk_4 (dk_at dksX2_isConsistent_0 0 rfl rfl)
theorem dX2_isConsistent_1 : decode cX2_isConsistent 1 = .ok (.istore_n 1, 1) := dk_60 (dk_at dksX2_isConsistent_0 1 rfl rfl)
theorem dX2_isConsistent_2 : decode cX2_isConsistent 2 = .ok (.iconst 0, 1) := dk_3 (dk_at dksX2_isConsistent_0 2 rfl rfl)
theorem dX2_isConsistent_3 : decode cX2_isConsistent 3 = .ok (.istore_n 2, 1) := dk_61 (dk_at dksX2_isConsistent_0 3 rfl rfl)
theorem dX2_isConsistent_4 : decode cX2_isConsistent 4 = .ok (.iload_n 2, 1) := dk_28 (dk_at dksX2_isConsistent_0 4 rfl rfl)
theorem dX2_isConsistent_5 : decode cX2_isConsistent 5 = .ok (.aload_n 0, 1) := dk_42 (dk_at dksX2_isConsistent_0 5 rfl rfl)
theorem dX2_isConsistent_6 : decode cX2_isConsistent 6 = .ok (.getfield 23, 3) := dk_180 0 23 (dk_at dksX2_isConsistent_0 6 rfl rfl)
theorem dX2_isConsistent_9 : decode cX2_isConsistent 9 = .ok (.invokevirtual 73, 3) := dk_182 0 73 (dk_at dksX2_isConsistent_0 9 rfl rfl)
theorem dX2_isConsistent_12 : decode cX2_isConsistent 12 = .ok (.if_icmp .ge 51, 3) := dk_162 0 51 (dk_at dksX2_isConsistent_0 12 rfl rfl)
theorem dX2_isConsistent_15 : decode cX2_isConsistent 15 = .ok (.aload_n 0, 1) := dk_42 (dk_at dksX2_isConsistent_0 15 rfl rfl)
theorem dX2_isConsistent_16 : decode cX2_isConsistent 16 = .ok (.iload_n 2, 1) := dk_28 (dk_at dksX2_isConsistent_0 16 rfl rfl)
theorem dX2_isConsistent_17 : decode cX2_isConsistent 17 = .ok (.iconst 4, 1) := dk_7 (dk_at dksX2_isConsistent_0 17 rfl rfl)
theorem dX2_isConsistent_18 : decode cX2_isConsistent 18 = .ok (.invokevirtual 117, 3) := dk_182 0 117 (dk_at dksX2_isConsistent_0 18 rfl rfl)
theorem dX2_isConsistent_21 : decode cX2_isConsistent 21 = .ok (.astore_n 3, 1) := dk_78 (dk_at dksX2_isConsistent_0 21 rfl rfl)
theorem dX2_isConsistent_22 : decode cX2_isConsistent 22 = .ok (.iload_n 1, 1) := dk_27 (dk_at dksX2_isConsistent_0 22 rfl rfl)
theorem dX2_isConsistent_23 : decode cX2_isConsistent 23 = .ok (.aload_n 3, 1) := dk_45 (dk_at dksX2_isConsistent_0 23 rfl rfl)
theorem dX2_isConsistent_24 : decode cX2_isConsistent 24 = .ok (.aload_n 3, 1) := dk_45 (dk_at dksX2_isConsistent_1 0 rfl rfl)
theorem dX2_isConsistent_25 : decode cX2_isConsistent 25 = .ok (.invokevirtual 121, 3) := dk_182 0 121 (dk_at dksX2_isConsistent_1 1 rfl rfl)
theorem dX2_isConsistent_28 : decode cX2_isConsistent 28 = .ok (.invokevirtual 243, 3) := dk_182 0 243 (dk_at dksX2_isConsistent_1 4 rfl rfl)
theorem dX2_isConsistent_31 : decode cX2_isConsistent 31 = .ok (.invokevirtual 247, 3) := dk_182 0 247 (dk_at dksX2_isConsistent_1 7 rfl rfl)
theorem dX2_isConsistent_34 : decode cX2_isConsistent 34 = .ok (.ifCond .eq 20, 3) := dk_153 0 20 (dk_at dksX2_isConsistent_1 10 rfl rfl)
theorem dX2_isConsistent_37 : decode cX2_isConsistent 37 = .ok (.aload_n 0, 1) := dk_42 (dk_at dksX2_isConsistent_1 13 rfl rfl)
theorem dX2_isConsistent_38 : decode cX2_isConsistent 38 = .ok (.iload_n 2, 1) := dk_28 (dk_at dksX2_isConsistent_1 14 rfl rfl)
theorem dX2_isConsistent_39 : decode cX2_isConsistent 39 = .ok (.invokevirtual 240, 3) := dk_182 0 240 (dk_at dksX2_isConsistent_1 15 rfl rfl)
theorem dX2_isConsistent_42 : decode cX2_isConsistent 42 = .ok (.aload_n 0, 1) := dk_42 (dk_at dksX2_isConsistent_1 18 rfl rfl)
theorem dX2_isConsistent_43 : decode cX2_isConsistent 43 = .ok (.iload_n 2, 1) := dk_28 (dk_at dksX2_isConsistent_1 19 rfl rfl)
theorem dX2_isConsistent_44 : decode cX2_isConsistent 44 = .ok (.invokevirtual 86, 3) := dk_182 0 86 (dk_at dksX2_isConsistent_1 20 rfl rfl)
theorem dX2_isConsistent_47 : decode cX2_isConsistent 47 = .ok (.if_icmp .ne 7, 3) := dk_160 0 7 (dk_at dksX2_isConsistent_2 0 rfl rfl)
theorem dX2_isConsistent_50 : decode cX2_isConsistent 50 = .ok (.iconst 1, 1) := dk_4 (dk_at dksX2_isConsistent_2 3 rfl rfl)
theorem dX2_isConsistent_51 : decode cX2_isConsistent 51 = .ok (.goto 4, 3) := dk_167 0 4 (dk_at dksX2_isConsistent_2 4 rfl rfl)
theorem dX2_isConsistent_54 : decode cX2_isConsistent 54 = .ok (.iconst 0, 1) := dk_3 (dk_at dksX2_isConsistent_2 7 rfl rfl)
theorem dX2_isConsistent_55 : decode cX2_isConsistent 55 = .ok (.iand, 1) := dk_126 (dk_at dksX2_isConsistent_2 8 rfl rfl)
theorem dX2_isConsistent_56 : decode cX2_isConsistent 56 = .ok (.istore_n 1, 1) := dk_60 (dk_at dksX2_isConsistent_2 9 rfl rfl)
theorem dX2_isConsistent_57 : decode cX2_isConsistent 57 = .ok (.iinc 2 1, 3) := dk_132 2 1 (dk_at dksX2_isConsistent_2 10 rfl rfl)
theorem dX2_isConsistent_60 : decode cX2_isConsistent 60 = .ok (.goto (-56), 3) := dk_167 255 200 (dk_at dksX2_isConsistent_2 13 rfl rfl)
theorem dX2_isConsistent_63 : decode cX2_isConsistent 63 = .ok (.iload_n 1, 1) := dk_27 (dk_at dksX2_isConsistent_2 16 rfl rfl)
theorem dX2_isConsistent_64 : decode cX2_isConsistent 64 = .ok (.ireturn, 1) := dk_172 (dk_at dksX2_isConsistent_2 17 rfl rfl)
abbrev cX2_deed : ByteArray := prog_6_method_8_code
def yX2_deed : MethodName := ⟨RX2, "deed", "(II)LTermsDesk$Deed;"⟩
def dkwX2_deed_0 : List UInt8 := [187, 0, 92, 89, 42, 28, 42, 27, 182, 0, 89, 42, 27, 182, 0, 94, 183, 0, 97, 176]
abbrev dktX2_deed_0 : List UInt8 := dkwX2_deed_0 ++ []
theorem dksX2_deed_0 : cX2_deed.data.toList.drop 0 = dktX2_deed_0 := by decide +kernel
theorem dX2_deed_0 : decode cX2_deed 0 = .ok (.new 92, 3) := dk_187 0 92 (dk_at dksX2_deed_0 0 rfl rfl)
theorem dX2_deed_3 : decode cX2_deed 3 = .ok (.dup, 1) := dk_89 (dk_at dksX2_deed_0 3 rfl rfl)
theorem dX2_deed_4 : decode cX2_deed 4 = .ok (.aload_n 0, 1) := dk_42 (dk_at dksX2_deed_0 4 rfl rfl)
theorem dX2_deed_5 : decode cX2_deed 5 = .ok (.iload_n 2, 1) := dk_28 (dk_at dksX2_deed_0 5 rfl rfl)
theorem dX2_deed_6 : decode cX2_deed 6 = .ok (.aload_n 0, 1) := dk_42 (dk_at dksX2_deed_0 6 rfl rfl)
theorem dX2_deed_7 : decode cX2_deed 7 = .ok (.iload_n 1, 1) := dk_27 (dk_at dksX2_deed_0 7 rfl rfl)
theorem dX2_deed_8 : decode cX2_deed 8 = .ok (.invokevirtual 89, 3) := dk_182 0 89 (dk_at dksX2_deed_0 8 rfl rfl)
theorem dX2_deed_11 : decode cX2_deed 11 = .ok (.aload_n 0, 1) := dk_42 (dk_at dksX2_deed_0 11 rfl rfl)
theorem dX2_deed_12 : decode cX2_deed 12 = .ok (.iload_n 1, 1) := dk_27 (dk_at dksX2_deed_0 12 rfl rfl)
theorem dX2_deed_13 : decode cX2_deed 13 = .ok (.invokevirtual 94, 3) := dk_182 0 94 (dk_at dksX2_deed_0 13 rfl rfl)
theorem dX2_deed_16 : decode cX2_deed 16 = .ok (.invokespecial 97, 3) := dk_183 0 97 (dk_at dksX2_deed_0 16 rfl rfl)
theorem dX2_deed_19 : decode cX2_deed 19 = .ok (.areturn, 1) := dk_176 (dk_at dksX2_deed_0 19 rfl rfl)
abbrev cX2_near : ByteArray := prog_6_method_5_code
def yX2_near : MethodName := ⟨RX2, "near", "(I)I"⟩
def dkwX2_near_0 : List UInt8 := [42, 180, 0, 23, 27, 182, 0, 65, 192, 0, 56, 180, 0, 77, 172]
abbrev dktX2_near_0 : List UInt8 := dkwX2_near_0 ++ []
theorem dksX2_near_0 : cX2_near.data.toList.drop 0 = dktX2_near_0 := by decide +kernel
theorem dX2_near_0 : decode cX2_near 0 = .ok (.aload_n 0, 1) := dk_42 (dk_at dksX2_near_0 0 rfl rfl)
theorem dX2_near_1 : decode cX2_near 1 = .ok (.getfield 23, 3) := dk_180 0 23 (dk_at dksX2_near_0 1 rfl rfl)
theorem dX2_near_4 : decode cX2_near 4 = .ok (.iload_n 1, 1) := dk_27 (dk_at dksX2_near_0 4 rfl rfl)
theorem dX2_near_5 : decode cX2_near 5 = .ok (.invokevirtual 65, 3) := dk_182 0 65 (dk_at dksX2_near_0 5 rfl rfl)
theorem dX2_near_8 : decode cX2_near 8 = .ok (.checkcast 56, 3) := dk_192 0 56 (dk_at dksX2_near_0 8 rfl rfl)
theorem dX2_near_11 : decode cX2_near 11 = .ok (.getfield 77, 3) := dk_180 0 77 (dk_at dksX2_near_0 11 rfl rfl)
theorem dX2_near_14 : decode cX2_near 14 = .ok (.ireturn, 1) := dk_172 (dk_at dksX2_near_0 14 rfl rfl)
abbrev cX2_far : ByteArray := prog_6_method_7_code
def yX2_far : MethodName := ⟨RX2, "far", "(I)I"⟩
def dkwX2_far_0 : List UInt8 := [42, 27, 182, 0, 86, 42, 27, 182, 0, 89, 2, 130, 126, 172]
abbrev dktX2_far_0 : List UInt8 := dkwX2_far_0 ++ []
theorem dksX2_far_0 : cX2_far.data.toList.drop 0 = dktX2_far_0 := by decide +kernel
theorem dX2_far_0 : decode cX2_far 0 = .ok (.aload_n 0, 1) := dk_42 (dk_at dksX2_far_0 0 rfl rfl)
theorem dX2_far_1 : decode cX2_far 1 = .ok (.iload_n 1, 1) := dk_27 (dk_at dksX2_far_0 1 rfl rfl)
theorem dX2_far_2 : decode cX2_far 2 = .ok (.invokevirtual 86, 3) := dk_182 0 86 (dk_at dksX2_far_0 2 rfl rfl)
theorem dX2_far_5 : decode cX2_far 5 = .ok (.aload_n 0, 1) := dk_42 (dk_at dksX2_far_0 5 rfl rfl)
theorem dX2_far_6 : decode cX2_far 6 = .ok (.iload_n 1, 1) := dk_27 (dk_at dksX2_far_0 6 rfl rfl)
theorem dX2_far_7 : decode cX2_far 7 = .ok (.invokevirtual 89, 3) := dk_182 0 89 (dk_at dksX2_far_0 7 rfl rfl)
theorem dX2_far_10 : decode cX2_far 10 = .ok (.iconst (-1), 1) := dk_2 (dk_at dksX2_far_0 10 rfl rfl)
theorem dX2_far_11 : decode cX2_far 11 = .ok (.ixor, 1) := dk_130 (dk_at dksX2_far_0 11 rfl rfl)
theorem dX2_far_12 : decode cX2_far 12 = .ok (.iand, 1) := dk_126 (dk_at dksX2_far_0 12 rfl rfl)
theorem dX2_far_13 : decode cX2_far 13 = .ok (.ireturn, 1) := dk_172 (dk_at dksX2_far_0 13 rfl rfl)
abbrev cX2_reached : ByteArray := prog_6_method_6_code
def yX2_reached : MethodName := ⟨RX2, "reached", "(I)I"⟩
def dkwX2_reached_0 : List UInt8 := [42, 42, 27, 182, 0, 79, 182, 0, 83, 172]
abbrev dktX2_reached_0 : List UInt8 := dkwX2_reached_0 ++ []
theorem dksX2_reached_0 : cX2_reached.data.toList.drop 0 = dktX2_reached_0 := by decide +kernel
theorem dX2_reached_0 : decode cX2_reached 0 = .ok (.aload_n 0, 1) := dk_42 (dk_at dksX2_reached_0 0 rfl rfl)
theorem dX2_reached_1 : decode cX2_reached 1 = .ok (.aload_n 0, 1) := dk_42 (dk_at dksX2_reached_0 1 rfl rfl)
theorem dX2_reached_2 : decode cX2_reached 2 = .ok (.iload_n 1, 1) := dk_27 (dk_at dksX2_reached_0 2 rfl rfl)
theorem dX2_reached_3 : decode cX2_reached 3 = .ok (.invokevirtual 79, 3) := dk_182 0 79 (dk_at dksX2_reached_0 3 rfl rfl)
theorem dX2_reached_6 : decode cX2_reached 6 = .ok (.invokevirtual 83, 3) := dk_182 0 83 (dk_at dksX2_reached_0 6 rfl rfl)
theorem dX2_reached_9 : decode cX2_reached 9 = .ok (.ireturn, 1) := dk_172 (dk_at dksX2_reached_0 9 rfl rfl)
abbrev cX2_reach : ByteArray := prog_6_method_3_code
def yX2_reach : MethodName := ⟨RX2, "reach", "(I)I"⟩
def dkwX2_reach_1 : List UInt8 := [182, 0, 65, 192, 0, 56, 180, 0, 69, 167, 0, 4, 3, 128, 61, 132, 3, 255, 167, 255, 220, 28, 172]
abbrev dktX2_reach_1 : List UInt8 := dkwX2_reach_1 ++ []
def dkwX2_reach_0 : List UInt8 := [4, 27, 120, 61, 27, 62, 29, 155, 0, 38, 28, 28, 29, 184, 0, 61, 153, 0, 20, 42, 180, 0, 23, 29]
abbrev dktX2_reach_0 : List UInt8 := dkwX2_reach_0 ++ dktX2_reach_1
theorem dksX2_reach_0 : cX2_reach.data.toList.drop 0 = dktX2_reach_0 := by decide +kernel
theorem dksX2_reach_1 : cX2_reach.data.toList.drop 24 = dktX2_reach_1 := dk_seg dksX2_reach_0 24 rfl rfl
theorem dX2_reach_0 : decode cX2_reach 0 = .ok (.iconst 1, 1) := dk_4 (dk_at dksX2_reach_0 0 rfl rfl)
theorem dX2_reach_1 : decode cX2_reach 1 = .ok (.iload_n 1, 1) := dk_27 (dk_at dksX2_reach_0 1 rfl rfl)
theorem dX2_reach_2 : decode cX2_reach 2 = .ok (.ishl, 1) := dk_120 (dk_at dksX2_reach_0 2 rfl rfl)
theorem dX2_reach_3 : decode cX2_reach 3 = .ok (.istore_n 2, 1) := dk_61 (dk_at dksX2_reach_0 3 rfl rfl)
theorem dX2_reach_4 : decode cX2_reach 4 = .ok (.iload_n 1, 1) := dk_27 (dk_at dksX2_reach_0 4 rfl rfl)
theorem dX2_reach_5 : decode cX2_reach 5 = .ok (.istore_n 3, 1) := dk_62 (dk_at dksX2_reach_0 5 rfl rfl)
theorem dX2_reach_6 : decode cX2_reach 6 = .ok (.iload_n 3, 1) := dk_29 (dk_at dksX2_reach_0 6 rfl rfl)
theorem dX2_reach_7 : decode cX2_reach 7 = .ok (.ifCond .lt 38, 3) := dk_155 0 38 (dk_at dksX2_reach_0 7 rfl rfl)
theorem dX2_reach_10 : decode cX2_reach 10 = .ok (.iload_n 2, 1) := dk_28 (dk_at dksX2_reach_0 10 rfl rfl)
theorem dX2_reach_11 : decode cX2_reach 11 = .ok (.iload_n 2, 1) := dk_28 (dk_at dksX2_reach_0 11 rfl rfl)
theorem dX2_reach_12 : decode cX2_reach 12 = .ok (.iload_n 3, 1) := dk_29 (dk_at dksX2_reach_0 12 rfl rfl)
theorem dX2_reach_13 : decode cX2_reach 13 = .ok (.invokestatic 61, 3) := dk_184 0 61 (dk_at dksX2_reach_0 13 rfl rfl)
theorem dX2_reach_16 : decode cX2_reach 16 = .ok (.ifCond .eq 20, 3) := dk_153 0 20 (dk_at dksX2_reach_0 16 rfl rfl)
theorem dX2_reach_19 : decode cX2_reach 19 = .ok (.aload_n 0, 1) := dk_42 (dk_at dksX2_reach_0 19 rfl rfl)
theorem dX2_reach_20 : decode cX2_reach 20 = .ok (.getfield 23, 3) := dk_180 0 23 (dk_at dksX2_reach_0 20 rfl rfl)
theorem dX2_reach_23 : decode cX2_reach 23 = .ok (.iload_n 3, 1) := dk_29 (dk_at dksX2_reach_0 23 rfl rfl)
theorem dX2_reach_24 : decode cX2_reach 24 = .ok (.invokevirtual 65, 3) := dk_182 0 65 (dk_at dksX2_reach_1 0 rfl rfl)
theorem dX2_reach_27 : decode cX2_reach 27 = .ok (.checkcast 56, 3) := dk_192 0 56 (dk_at dksX2_reach_1 3 rfl rfl)
theorem dX2_reach_30 : decode cX2_reach 30 = .ok (.getfield 69, 3) := dk_180 0 69 (dk_at dksX2_reach_1 6 rfl rfl)
theorem dX2_reach_33 : decode cX2_reach 33 = .ok (.goto 4, 3) := dk_167 0 4 (dk_at dksX2_reach_1 9 rfl rfl)
theorem dX2_reach_36 : decode cX2_reach 36 = .ok (.iconst 0, 1) := dk_3 (dk_at dksX2_reach_1 12 rfl rfl)
theorem dX2_reach_37 : decode cX2_reach 37 = .ok (.ior, 1) := dk_128 (dk_at dksX2_reach_1 13 rfl rfl)
theorem dX2_reach_38 : decode cX2_reach 38 = .ok (.istore_n 2, 1) := dk_61 (dk_at dksX2_reach_1 14 rfl rfl)
theorem dX2_reach_39 : decode cX2_reach 39 = .ok (.iinc 3 (-1), 3) := dk_132 3 255 (dk_at dksX2_reach_1 15 rfl rfl)
theorem dX2_reach_42 : decode cX2_reach 42 = .ok (.goto (-36), 3) := dk_167 255 220 (dk_at dksX2_reach_1 18 rfl rfl)
theorem dX2_reach_45 : decode cX2_reach 45 = .ok (.iload_n 2, 1) := dk_28 (dk_at dksX2_reach_1 21 rfl rfl)
theorem dX2_reach_46 : decode cX2_reach 46 = .ok (.ireturn, 1) := dk_172 (dk_at dksX2_reach_1 22 rfl rfl)
abbrev cX2_joined : ByteArray := prog_6_method_4_code
def yX2_joined : MethodName := ⟨RX2, "joined", "(I)I"⟩
def dkwX2_joined_2 : List UInt8 := [167, 255, 213, 28, 172]
abbrev dktX2_joined_2 : List UInt8 := dkwX2_joined_2 ++ []
def dkwX2_joined_1 : List UInt8 := [42, 180, 0, 23, 29, 182, 0, 65, 192, 0, 56, 180, 0, 77, 167, 0, 4, 3, 128, 61, 132, 3, 1]
abbrev dktX2_joined_1 : List UInt8 := dkwX2_joined_1 ++ dktX2_joined_2
def dkwX2_joined_0 : List UInt8 := [3, 61, 3, 62, 29, 42, 180, 0, 23, 182, 0, 73, 162, 0, 38, 28, 27, 29, 184, 0, 61, 153, 0, 20]
abbrev dktX2_joined_0 : List UInt8 := dkwX2_joined_0 ++ dktX2_joined_1
theorem dksX2_joined_0 : cX2_joined.data.toList.drop 0 = dktX2_joined_0 := by decide +kernel
theorem dksX2_joined_1 : cX2_joined.data.toList.drop 24 = dktX2_joined_1 := dk_seg dksX2_joined_0 24 rfl rfl
theorem dksX2_joined_2 : cX2_joined.data.toList.drop 47 = dktX2_joined_2 := dk_seg dksX2_joined_1 23 rfl rfl
theorem dX2_joined_0 : decode cX2_joined 0 = .ok (.iconst 0, 1) := dk_3 (dk_at dksX2_joined_0 0 rfl rfl)
theorem dX2_joined_1 : decode cX2_joined 1 = .ok (.istore_n 2, 1) := dk_61 (dk_at dksX2_joined_0 1 rfl rfl)
theorem dX2_joined_2 : decode cX2_joined 2 = .ok (.iconst 0, 1) := dk_3 (dk_at dksX2_joined_0 2 rfl rfl)
theorem dX2_joined_3 : decode cX2_joined 3 = .ok (.istore_n 3, 1) := dk_62 (dk_at dksX2_joined_0 3 rfl rfl)
theorem dX2_joined_4 : decode cX2_joined 4 = .ok (.iload_n 3, 1) := dk_29 (dk_at dksX2_joined_0 4 rfl rfl)
theorem dX2_joined_5 : decode cX2_joined 5 = .ok (.aload_n 0, 1) := dk_42 (dk_at dksX2_joined_0 5 rfl rfl)
theorem dX2_joined_6 : decode cX2_joined 6 = .ok (.getfield 23, 3) := dk_180 0 23 (dk_at dksX2_joined_0 6 rfl rfl)
theorem dX2_joined_9 : decode cX2_joined 9 = .ok (.invokevirtual 73, 3) := dk_182 0 73 (dk_at dksX2_joined_0 9 rfl rfl)
theorem dX2_joined_12 : decode cX2_joined 12 = .ok (.if_icmp .ge 38, 3) := dk_162 0 38 (dk_at dksX2_joined_0 12 rfl rfl)
theorem dX2_joined_15 : decode cX2_joined 15 = .ok (.iload_n 2, 1) := dk_28 (dk_at dksX2_joined_0 15 rfl rfl)
theorem dX2_joined_16 : decode cX2_joined 16 = .ok (.iload_n 1, 1) := dk_27 (dk_at dksX2_joined_0 16 rfl rfl)
theorem dX2_joined_17 : decode cX2_joined 17 = .ok (.iload_n 3, 1) := dk_29 (dk_at dksX2_joined_0 17 rfl rfl)
theorem dX2_joined_18 : decode cX2_joined 18 = .ok (.invokestatic 61, 3) := dk_184 0 61 (dk_at dksX2_joined_0 18 rfl rfl)
theorem dX2_joined_21 : decode cX2_joined 21 = .ok (.ifCond .eq 20, 3) := dk_153 0 20 (dk_at dksX2_joined_0 21 rfl rfl)
theorem dX2_joined_24 : decode cX2_joined 24 = .ok (.aload_n 0, 1) := dk_42 (dk_at dksX2_joined_1 0 rfl rfl)
theorem dX2_joined_25 : decode cX2_joined 25 = .ok (.getfield 23, 3) := dk_180 0 23 (dk_at dksX2_joined_1 1 rfl rfl)
theorem dX2_joined_28 : decode cX2_joined 28 = .ok (.iload_n 3, 1) := dk_29 (dk_at dksX2_joined_1 4 rfl rfl)
theorem dX2_joined_29 : decode cX2_joined 29 = .ok (.invokevirtual 65, 3) := dk_182 0 65 (dk_at dksX2_joined_1 5 rfl rfl)
theorem dX2_joined_32 : decode cX2_joined 32 = .ok (.checkcast 56, 3) := dk_192 0 56 (dk_at dksX2_joined_1 8 rfl rfl)
theorem dX2_joined_35 : decode cX2_joined 35 = .ok (.getfield 77, 3) := dk_180 0 77 (dk_at dksX2_joined_1 11 rfl rfl)
theorem dX2_joined_38 : decode cX2_joined 38 = .ok (.goto 4, 3) := dk_167 0 4 (dk_at dksX2_joined_1 14 rfl rfl)
theorem dX2_joined_41 : decode cX2_joined 41 = .ok (.iconst 0, 1) := dk_3 (dk_at dksX2_joined_1 17 rfl rfl)
theorem dX2_joined_42 : decode cX2_joined 42 = .ok (.ior, 1) := dk_128 (dk_at dksX2_joined_1 18 rfl rfl)
theorem dX2_joined_43 : decode cX2_joined 43 = .ok (.istore_n 2, 1) := dk_61 (dk_at dksX2_joined_1 19 rfl rfl)
theorem dX2_joined_44 : decode cX2_joined 44 = .ok (.iinc 3 1, 3) := dk_132 3 1 (dk_at dksX2_joined_1 20 rfl rfl)
theorem dX2_joined_47 : decode cX2_joined 47 = .ok (.goto (-43), 3) := dk_167 255 213 (dk_at dksX2_joined_2 0 rfl rfl)
theorem dX2_joined_50 : decode cX2_joined 50 = .ok (.iload_n 2, 1) := dk_28 (dk_at dksX2_joined_2 3 rfl rfl)
theorem dX2_joined_51 : decode cX2_joined 51 = .ok (.ireturn, 1) := dk_172 (dk_at dksX2_joined_2 4 rfl rfl)
abbrev cX2_reachedAgain : ByteArray := prog_6_method_27_code
def yX2_reachedAgain : MethodName := ⟨RX2, "reachedAgain", "(I)I"⟩
def dkwX2_reachedAgain_2 : List UInt8 := [132, 3, 1, 167, 255, 215, 28, 172]
abbrev dktX2_reachedAgain_2 : List UInt8 := dkwX2_reachedAgain_2 ++ []
def dkwX2_reachedAgain_1 : List UInt8 := [192, 0, 56, 180, 0, 69, 29, 184, 0, 61, 153, 0, 11, 42, 29, 182, 0, 240, 167, 0, 4, 3, 128, 61]
abbrev dktX2_reachedAgain_1 : List UInt8 := dkwX2_reachedAgain_1 ++ dktX2_reachedAgain_2
def dkwX2_reachedAgain_0 : List UInt8 := [42, 27, 182, 0, 89, 61, 3, 62, 29, 27, 162, 0, 42, 28, 42, 180, 0, 23, 27, 182, 0, 65]
abbrev dktX2_reachedAgain_0 : List UInt8 := dkwX2_reachedAgain_0 ++ dktX2_reachedAgain_1
theorem dksX2_reachedAgain_0 : cX2_reachedAgain.data.toList.drop 0 = dktX2_reachedAgain_0 := by decide +kernel
theorem dksX2_reachedAgain_1 : cX2_reachedAgain.data.toList.drop 22 = dktX2_reachedAgain_1 := dk_seg dksX2_reachedAgain_0 22 rfl rfl
theorem dksX2_reachedAgain_2 : cX2_reachedAgain.data.toList.drop 46 = dktX2_reachedAgain_2 := dk_seg dksX2_reachedAgain_1 24 rfl rfl
theorem dX2_reachedAgain_0 : decode cX2_reachedAgain 0 = .ok (.aload_n 0, 1) := dk_42 (dk_at dksX2_reachedAgain_0 0 rfl rfl)
theorem dX2_reachedAgain_1 : decode cX2_reachedAgain 1 = .ok (.iload_n 1, 1) := dk_27 (dk_at dksX2_reachedAgain_0 1 rfl rfl)
theorem dX2_reachedAgain_2 : decode cX2_reachedAgain 2 = .ok (.invokevirtual 89, 3) := dk_182 0 89 (dk_at dksX2_reachedAgain_0 2 rfl rfl)
theorem dX2_reachedAgain_5 : decode cX2_reachedAgain 5 = .ok (.istore_n 2, 1) := dk_61 (dk_at dksX2_reachedAgain_0 5 rfl rfl)
theorem dX2_reachedAgain_6 : decode cX2_reachedAgain 6 = .ok (.iconst 0, 1) := dk_3 (dk_at dksX2_reachedAgain_0 6 rfl rfl)
theorem dX2_reachedAgain_7 : decode cX2_reachedAgain 7 = .ok (.istore_n 3, 1) := dk_62 (dk_at dksX2_reachedAgain_0 7 rfl rfl)
theorem dX2_reachedAgain_8 : decode cX2_reachedAgain 8 = .ok (.iload_n 3, 1) := dk_29 (dk_at dksX2_reachedAgain_0 8 rfl rfl)
theorem dX2_reachedAgain_9 : decode cX2_reachedAgain 9 = .ok (.iload_n 1, 1) := dk_27 (dk_at dksX2_reachedAgain_0 9 rfl rfl)
theorem dX2_reachedAgain_10 : decode cX2_reachedAgain 10 = .ok (.if_icmp .ge 42, 3) := dk_162 0 42 (dk_at dksX2_reachedAgain_0 10 rfl rfl)
theorem dX2_reachedAgain_13 : decode cX2_reachedAgain 13 = .ok (.iload_n 2, 1) := dk_28 (dk_at dksX2_reachedAgain_0 13 rfl rfl)
theorem dX2_reachedAgain_14 : decode cX2_reachedAgain 14 = .ok (.aload_n 0, 1) := dk_42 (dk_at dksX2_reachedAgain_0 14 rfl rfl)
theorem dX2_reachedAgain_15 : decode cX2_reachedAgain 15 = .ok (.getfield 23, 3) := dk_180 0 23 (dk_at dksX2_reachedAgain_0 15 rfl rfl)
theorem dX2_reachedAgain_18 : decode cX2_reachedAgain 18 = .ok (.iload_n 1, 1) := dk_27 (dk_at dksX2_reachedAgain_0 18 rfl rfl)
theorem dX2_reachedAgain_19 : decode cX2_reachedAgain 19 = .ok (.invokevirtual 65, 3) := dk_182 0 65 (dk_at dksX2_reachedAgain_0 19 rfl rfl)
theorem dX2_reachedAgain_22 : decode cX2_reachedAgain 22 = .ok (.checkcast 56, 3) := dk_192 0 56 (dk_at dksX2_reachedAgain_1 0 rfl rfl)
theorem dX2_reachedAgain_25 : decode cX2_reachedAgain 25 = .ok (.getfield 69, 3) := dk_180 0 69 (dk_at dksX2_reachedAgain_1 3 rfl rfl)
theorem dX2_reachedAgain_28 : decode cX2_reachedAgain 28 = .ok (.iload_n 3, 1) := dk_29 (dk_at dksX2_reachedAgain_1 6 rfl rfl)
theorem dX2_reachedAgain_29 : decode cX2_reachedAgain 29 = .ok (.invokestatic 61, 3) := dk_184 0 61 (dk_at dksX2_reachedAgain_1 7 rfl rfl)
theorem dX2_reachedAgain_32 : decode cX2_reachedAgain 32 = .ok (.ifCond .eq 11, 3) := dk_153 0 11 (dk_at dksX2_reachedAgain_1 10 rfl rfl)
theorem dX2_reachedAgain_35 : decode cX2_reachedAgain 35 = .ok (.aload_n 0, 1) := dk_42 (dk_at dksX2_reachedAgain_1 13 rfl rfl)
theorem dX2_reachedAgain_36 : decode cX2_reachedAgain 36 = .ok (.iload_n 3, 1) := dk_29 (dk_at dksX2_reachedAgain_1 14 rfl rfl)
theorem dX2_reachedAgain_37 : decode cX2_reachedAgain 37 = .ok (.invokevirtual 240, 3) := dk_182 0 240 (dk_at dksX2_reachedAgain_1 15 rfl rfl)
theorem dX2_reachedAgain_40 : decode cX2_reachedAgain 40 = .ok (.goto 4, 3) := dk_167 0 4 (dk_at dksX2_reachedAgain_1 18 rfl rfl)
theorem dX2_reachedAgain_43 : decode cX2_reachedAgain 43 = .ok (.iconst 0, 1) := dk_3 (dk_at dksX2_reachedAgain_1 21 rfl rfl)
theorem dX2_reachedAgain_44 : decode cX2_reachedAgain 44 = .ok (.ior, 1) := dk_128 (dk_at dksX2_reachedAgain_1 22 rfl rfl)
theorem dX2_reachedAgain_45 : decode cX2_reachedAgain 45 = .ok (.istore_n 2, 1) := dk_61 (dk_at dksX2_reachedAgain_1 23 rfl rfl)
theorem dX2_reachedAgain_46 : decode cX2_reachedAgain 46 = .ok (.iinc 3 1, 3) := dk_132 3 1 (dk_at dksX2_reachedAgain_2 0 rfl rfl)
theorem dX2_reachedAgain_49 : decode cX2_reachedAgain 49 = .ok (.goto (-41), 3) := dk_167 255 215 (dk_at dksX2_reachedAgain_2 3 rfl rfl)
theorem dX2_reachedAgain_52 : decode cX2_reachedAgain 52 = .ok (.iload_n 2, 1) := dk_28 (dk_at dksX2_reachedAgain_2 6 rfl rfl)
theorem dX2_reachedAgain_53 : decode cX2_reachedAgain 53 = .ok (.ireturn, 1) := dk_172 (dk_at dksX2_reachedAgain_2 7 rfl rfl)
abbrev cX2_copy : ByteArray := prog_6_method_2_code
def yX2_copy : MethodName := ⟨RX2, "copy", "()LTermsDesk$Desk;"⟩
def dkwX2_copy_6 : List UInt8 := [167, 255, 224, 43, 176]
abbrev dktX2_copy_6 : List UInt8 := dkwX2_copy_6 ++ []
def dkwX2_copy_5 : List UInt8 := [185, 0, 37, 1, 0, 192, 0, 56, 78, 43, 180, 0, 23, 45, 182, 0, 58, 182, 0, 47, 54, 4]
abbrev dktX2_copy_5 : List UInt8 := dkwX2_copy_5 ++ dktX2_copy_6
def dkwX2_copy_4 : List UInt8 := [167, 255, 224, 42, 180, 0, 23, 182, 0, 27, 77, 44, 185, 0, 31, 1, 0, 153, 0, 29, 44]
abbrev dktX2_copy_4 : List UInt8 := dkwX2_copy_4 ++ dktX2_copy_5
def dkwX2_copy_3 : List UInt8 := [185, 0, 37, 1, 0, 192, 0, 51, 78, 43, 180, 0, 20, 45, 182, 0, 53, 182, 0, 47, 54, 4]
abbrev dktX2_copy_3 : List UInt8 := dkwX2_copy_3 ++ dktX2_copy_4
def dkwX2_copy_2 : List UInt8 := [54, 4, 167, 255, 224, 42, 180, 0, 20, 182, 0, 27, 77, 44, 185, 0, 31, 1, 0, 153, 0, 29, 44]
abbrev dktX2_copy_2 : List UInt8 := dkwX2_copy_2 ++ dktX2_copy_3
def dkwX2_copy_1 : List UInt8 := [153, 0, 29, 44, 185, 0, 37, 1, 0, 192, 0, 41, 78, 43, 180, 0, 14, 45, 182, 0, 43, 182, 0, 47]
abbrev dktX2_copy_1 : List UInt8 := dkwX2_copy_1 ++ dktX2_copy_2
def dkwX2_copy_0 : List UInt8 := [187, 0, 15, 89, 183, 0, 26, 76, 42, 180, 0, 14, 182, 0, 27, 77, 44, 185, 0, 31, 1, 0]
abbrev dktX2_copy_0 : List UInt8 := dkwX2_copy_0 ++ dktX2_copy_1
theorem dksX2_copy_0 : cX2_copy.data.toList.drop 0 = dktX2_copy_0 := by decide +kernel
theorem dksX2_copy_1 : cX2_copy.data.toList.drop 22 = dktX2_copy_1 := dk_seg dksX2_copy_0 22 rfl rfl
theorem dksX2_copy_2 : cX2_copy.data.toList.drop 46 = dktX2_copy_2 := dk_seg dksX2_copy_1 24 rfl rfl
theorem dksX2_copy_3 : cX2_copy.data.toList.drop 69 = dktX2_copy_3 := dk_seg dksX2_copy_2 23 rfl rfl
theorem dksX2_copy_4 : cX2_copy.data.toList.drop 91 = dktX2_copy_4 := dk_seg dksX2_copy_3 22 rfl rfl
theorem dksX2_copy_5 : cX2_copy.data.toList.drop 112 = dktX2_copy_5 := dk_seg dksX2_copy_4 21 rfl rfl
theorem dksX2_copy_6 : cX2_copy.data.toList.drop 134 = dktX2_copy_6 := dk_seg dksX2_copy_5 22 rfl rfl
theorem dX2_copy_0 : decode cX2_copy 0 = .ok (.new 15, 3) := dk_187 0 15 (dk_at dksX2_copy_0 0 rfl rfl)
theorem dX2_copy_3 : decode cX2_copy 3 = .ok (.dup, 1) := dk_89 (dk_at dksX2_copy_0 3 rfl rfl)
theorem dX2_copy_4 : decode cX2_copy 4 = .ok (.invokespecial 26, 3) := dk_183 0 26 (dk_at dksX2_copy_0 4 rfl rfl)
theorem dX2_copy_7 : decode cX2_copy 7 = .ok (.astore_n 1, 1) := dk_76 (dk_at dksX2_copy_0 7 rfl rfl)
theorem dX2_copy_8 : decode cX2_copy 8 = .ok (.aload_n 0, 1) := dk_42 (dk_at dksX2_copy_0 8 rfl rfl)
theorem dX2_copy_9 : decode cX2_copy 9 = .ok (.getfield 14, 3) := dk_180 0 14 (dk_at dksX2_copy_0 9 rfl rfl)
theorem dX2_copy_12 : decode cX2_copy 12 = .ok (.invokevirtual 27, 3) := dk_182 0 27 (dk_at dksX2_copy_0 12 rfl rfl)
theorem dX2_copy_15 : decode cX2_copy 15 = .ok (.astore_n 2, 1) := dk_77 (dk_at dksX2_copy_0 15 rfl rfl)
theorem dX2_copy_16 : decode cX2_copy 16 = .ok (.aload_n 2, 1) := dk_44 (dk_at dksX2_copy_0 16 rfl rfl)
theorem dX2_copy_17 : decode cX2_copy 17 = .ok (.invokeinterface 31 1, 5) := by decide +kernel
theorem dX2_copy_22 : decode cX2_copy 22 = .ok (.ifCond .eq 29, 3) := dk_153 0 29 (dk_at dksX2_copy_1 0 rfl rfl)
theorem dX2_copy_25 : decode cX2_copy 25 = .ok (.aload_n 2, 1) := dk_44 (dk_at dksX2_copy_1 3 rfl rfl)
theorem dX2_copy_26 : decode cX2_copy 26 = .ok (.invokeinterface 37 1, 5) := by decide +kernel
theorem dX2_copy_31 : decode cX2_copy 31 = .ok (.checkcast 41, 3) := dk_192 0 41 (dk_at dksX2_copy_1 9 rfl rfl)
theorem dX2_copy_34 : decode cX2_copy 34 = .ok (.astore_n 3, 1) := dk_78 (dk_at dksX2_copy_1 12 rfl rfl)
theorem dX2_copy_35 : decode cX2_copy 35 = .ok (.aload_n 1, 1) := dk_43 (dk_at dksX2_copy_1 13 rfl rfl)
theorem dX2_copy_36 : decode cX2_copy 36 = .ok (.getfield 14, 3) := dk_180 0 14 (dk_at dksX2_copy_1 14 rfl rfl)
theorem dX2_copy_39 : decode cX2_copy 39 = .ok (.aload_n 3, 1) := dk_45 (dk_at dksX2_copy_1 17 rfl rfl)
theorem dX2_copy_40 : decode cX2_copy 40 = .ok (.invokevirtual 43, 3) := dk_182 0 43 (dk_at dksX2_copy_1 18 rfl rfl)
theorem dX2_copy_43 : decode cX2_copy 43 = .ok (.invokevirtual 47, 3) := dk_182 0 47 (dk_at dksX2_copy_1 21 rfl rfl)
theorem dX2_copy_46 : decode cX2_copy 46 = .ok (.istore 4, 2) := dk_54 4 (dk_at dksX2_copy_2 0 rfl rfl)
theorem dX2_copy_48 : decode cX2_copy 48 = .ok (.goto (-32), 3) := dk_167 255 224 (dk_at dksX2_copy_2 2 rfl rfl)
theorem dX2_copy_51 : decode cX2_copy 51 = .ok (.aload_n 0, 1) := dk_42 (dk_at dksX2_copy_2 5 rfl rfl)
theorem dX2_copy_52 : decode cX2_copy 52 = .ok (.getfield 20, 3) := dk_180 0 20 (dk_at dksX2_copy_2 6 rfl rfl)
theorem dX2_copy_55 : decode cX2_copy 55 = .ok (.invokevirtual 27, 3) := dk_182 0 27 (dk_at dksX2_copy_2 9 rfl rfl)
theorem dX2_copy_58 : decode cX2_copy 58 = .ok (.astore_n 2, 1) := dk_77 (dk_at dksX2_copy_2 12 rfl rfl)
theorem dX2_copy_59 : decode cX2_copy 59 = .ok (.aload_n 2, 1) := dk_44 (dk_at dksX2_copy_2 13 rfl rfl)
theorem dX2_copy_60 : decode cX2_copy 60 = .ok (.invokeinterface 31 1, 5) := by decide +kernel
theorem dX2_copy_65 : decode cX2_copy 65 = .ok (.ifCond .eq 29, 3) := dk_153 0 29 (dk_at dksX2_copy_2 19 rfl rfl)
theorem dX2_copy_68 : decode cX2_copy 68 = .ok (.aload_n 2, 1) := dk_44 (dk_at dksX2_copy_2 22 rfl rfl)
theorem dX2_copy_69 : decode cX2_copy 69 = .ok (.invokeinterface 37 1, 5) := by decide +kernel
theorem dX2_copy_74 : decode cX2_copy 74 = .ok (.checkcast 51, 3) := dk_192 0 51 (dk_at dksX2_copy_3 5 rfl rfl)
theorem dX2_copy_77 : decode cX2_copy 77 = .ok (.astore_n 3, 1) := dk_78 (dk_at dksX2_copy_3 8 rfl rfl)
theorem dX2_copy_78 : decode cX2_copy 78 = .ok (.aload_n 1, 1) := dk_43 (dk_at dksX2_copy_3 9 rfl rfl)
theorem dX2_copy_79 : decode cX2_copy 79 = .ok (.getfield 20, 3) := dk_180 0 20 (dk_at dksX2_copy_3 10 rfl rfl)
theorem dX2_copy_82 : decode cX2_copy 82 = .ok (.aload_n 3, 1) := dk_45 (dk_at dksX2_copy_3 13 rfl rfl)
theorem dX2_copy_83 : decode cX2_copy 83 = .ok (.invokevirtual 53, 3) := dk_182 0 53 (dk_at dksX2_copy_3 14 rfl rfl)
theorem dX2_copy_86 : decode cX2_copy 86 = .ok (.invokevirtual 47, 3) := dk_182 0 47 (dk_at dksX2_copy_3 17 rfl rfl)
theorem dX2_copy_89 : decode cX2_copy 89 = .ok (.istore 4, 2) := dk_54 4 (dk_at dksX2_copy_3 20 rfl rfl)
theorem dX2_copy_91 : decode cX2_copy 91 = .ok (.goto (-32), 3) := dk_167 255 224 (dk_at dksX2_copy_4 0 rfl rfl)
theorem dX2_copy_94 : decode cX2_copy 94 = .ok (.aload_n 0, 1) := dk_42 (dk_at dksX2_copy_4 3 rfl rfl)
theorem dX2_copy_95 : decode cX2_copy 95 = .ok (.getfield 23, 3) := dk_180 0 23 (dk_at dksX2_copy_4 4 rfl rfl)
theorem dX2_copy_98 : decode cX2_copy 98 = .ok (.invokevirtual 27, 3) := dk_182 0 27 (dk_at dksX2_copy_4 7 rfl rfl)
theorem dX2_copy_101 : decode cX2_copy 101 = .ok (.astore_n 2, 1) := dk_77 (dk_at dksX2_copy_4 10 rfl rfl)
theorem dX2_copy_102 : decode cX2_copy 102 = .ok (.aload_n 2, 1) := dk_44 (dk_at dksX2_copy_4 11 rfl rfl)
theorem dX2_copy_103 : decode cX2_copy 103 = .ok (.invokeinterface 31 1, 5) := by decide +kernel
theorem dX2_copy_108 : decode cX2_copy 108 = .ok (.ifCond .eq 29, 3) := dk_153 0 29 (dk_at dksX2_copy_4 17 rfl rfl)
theorem dX2_copy_111 : decode cX2_copy 111 = .ok (.aload_n 2, 1) := dk_44 (dk_at dksX2_copy_4 20 rfl rfl)
theorem dX2_copy_112 : decode cX2_copy 112 = .ok (.invokeinterface 37 1, 5) := by decide +kernel
theorem dX2_copy_117 : decode cX2_copy 117 = .ok (.checkcast 56, 3) := dk_192 0 56 (dk_at dksX2_copy_5 5 rfl rfl)
theorem dX2_copy_120 : decode cX2_copy 120 = .ok (.astore_n 3, 1) := dk_78 (dk_at dksX2_copy_5 8 rfl rfl)
theorem dX2_copy_121 : decode cX2_copy 121 = .ok (.aload_n 1, 1) := dk_43 (dk_at dksX2_copy_5 9 rfl rfl)
theorem dX2_copy_122 : decode cX2_copy 122 = .ok (.getfield 23, 3) := dk_180 0 23 (dk_at dksX2_copy_5 10 rfl rfl)
theorem dX2_copy_125 : decode cX2_copy 125 = .ok (.aload_n 3, 1) := dk_45 (dk_at dksX2_copy_5 13 rfl rfl)
theorem dX2_copy_126 : decode cX2_copy 126 = .ok (.invokevirtual 58, 3) := dk_182 0 58 (dk_at dksX2_copy_5 14 rfl rfl)
theorem dX2_copy_129 : decode cX2_copy 129 = .ok (.invokevirtual 47, 3) := dk_182 0 47 (dk_at dksX2_copy_5 17 rfl rfl)
theorem dX2_copy_132 : decode cX2_copy 132 = .ok (.istore 4, 2) := dk_54 4 (dk_at dksX2_copy_5 20 rfl rfl)
theorem dX2_copy_134 : decode cX2_copy 134 = .ok (.goto (-32), 3) := dk_167 255 224 (dk_at dksX2_copy_6 0 rfl rfl)
theorem dX2_copy_137 : decode cX2_copy 137 = .ok (.aload_n 1, 1) := dk_43 (dk_at dksX2_copy_6 3 rfl rfl)
theorem dX2_copy_138 : decode cX2_copy 138 = .ok (.areturn, 1) := dk_176 (dk_at dksX2_copy_6 4 rfl rfl)
abbrev cX2_flip : ByteArray := prog_6_method_10_code
def yX2_flip : MethodName := ⟨RX2, "flip", "(I)I"⟩
def dkwX2_flip_1 : List UInt8 := [154, 0, 7, 4, 167, 0, 4, 3, 181, 0, 107, 44, 182, 0, 111, 172]
abbrev dktX2_flip_1 : List UInt8 := dkwX2_flip_1 ++ []
def dkwX2_flip_0 : List UInt8 := [42, 180, 0, 20, 27, 182, 0, 65, 192, 0, 51, 77, 44, 182, 0, 100, 184, 0, 103, 44, 44, 180, 0, 107]
abbrev dktX2_flip_0 : List UInt8 := dkwX2_flip_0 ++ dktX2_flip_1
theorem dksX2_flip_0 : cX2_flip.data.toList.drop 0 = dktX2_flip_0 := by decide +kernel
theorem dksX2_flip_1 : cX2_flip.data.toList.drop 24 = dktX2_flip_1 := dk_seg dksX2_flip_0 24 rfl rfl
theorem dX2_flip_0 : decode cX2_flip 0 = .ok (.aload_n 0, 1) := dk_42 (dk_at dksX2_flip_0 0 rfl rfl)
theorem dX2_flip_1 : decode cX2_flip 1 = .ok (.getfield 20, 3) := dk_180 0 20 (dk_at dksX2_flip_0 1 rfl rfl)
theorem dX2_flip_4 : decode cX2_flip 4 = .ok (.iload_n 1, 1) := dk_27 (dk_at dksX2_flip_0 4 rfl rfl)
theorem dX2_flip_5 : decode cX2_flip 5 = .ok (.invokevirtual 65, 3) := dk_182 0 65 (dk_at dksX2_flip_0 5 rfl rfl)
theorem dX2_flip_8 : decode cX2_flip 8 = .ok (.checkcast 51, 3) := dk_192 0 51 (dk_at dksX2_flip_0 8 rfl rfl)
theorem dX2_flip_11 : decode cX2_flip 11 = .ok (.astore_n 2, 1) := dk_77 (dk_at dksX2_flip_0 11 rfl rfl)
theorem dX2_flip_12 : decode cX2_flip 12 = .ok (.aload_n 2, 1) := dk_44 (dk_at dksX2_flip_0 12 rfl rfl)
theorem dX2_flip_13 : decode cX2_flip 13 = .ok (.invokevirtual 100, 3) := dk_182 0 100 (dk_at dksX2_flip_0 13 rfl rfl)
theorem dX2_flip_16 : decode cX2_flip 16 = .ok (.invokestatic 103, 3) := dk_184 0 103 (dk_at dksX2_flip_0 16 rfl rfl)
theorem dX2_flip_19 : decode cX2_flip 19 = .ok (.aload_n 2, 1) := dk_44 (dk_at dksX2_flip_0 19 rfl rfl)
theorem dX2_flip_20 : decode cX2_flip 20 = .ok (.aload_n 2, 1) := dk_44 (dk_at dksX2_flip_0 20 rfl rfl)
theorem dX2_flip_21 : decode cX2_flip 21 = .ok (.getfield 107, 3) := dk_180 0 107 (dk_at dksX2_flip_0 21 rfl rfl)
theorem dX2_flip_24 : decode cX2_flip 24 = .ok (.ifCond .ne 7, 3) := dk_154 0 7 (dk_at dksX2_flip_1 0 rfl rfl)
theorem dX2_flip_27 : decode cX2_flip 27 = .ok (.iconst 1, 1) := dk_4 (dk_at dksX2_flip_1 3 rfl rfl)
theorem dX2_flip_28 : decode cX2_flip 28 = .ok (.goto 4, 3) := dk_167 0 4 (dk_at dksX2_flip_1 4 rfl rfl)
theorem dX2_flip_31 : decode cX2_flip 31 = .ok (.iconst 0, 1) := dk_3 (dk_at dksX2_flip_1 7 rfl rfl)
theorem dX2_flip_32 : decode cX2_flip 32 = .ok (.putfield 107, 3) := dk_181 0 107 (dk_at dksX2_flip_1 8 rfl rfl)
theorem dX2_flip_35 : decode cX2_flip 35 = .ok (.aload_n 2, 1) := dk_44 (dk_at dksX2_flip_1 11 rfl rfl)
theorem dX2_flip_36 : decode cX2_flip 36 = .ok (.invokevirtual 111, 3) := dk_182 0 111 (dk_at dksX2_flip_1 12 rfl rfl)
theorem dX2_flip_39 : decode cX2_flip 39 = .ok (.ireturn, 1) := dk_172 (dk_at dksX2_flip_1 15 rfl rfl)
abbrev cX2_join : ByteArray := prog_6_method_11_code
def yX2_join : MethodName := ⟨RX2, "join", "(IIZ)Z"⟩
def dkwX2_join_2 : List UInt8 := [4, 28, 120, 128, 167, 0, 14, 25, 4, 180, 0, 77, 4, 28, 120, 2, 130, 126, 181, 0, 77, 21, 6, 172]
abbrev dktX2_join_2 : List UInt8 := dkwX2_join_2 ++ []
def dkwX2_join_1 : List UInt8 := [58, 5, 25, 4, 180, 0, 77, 28, 184, 0, 61, 54, 6, 25, 4, 29, 153, 0, 15, 25, 4, 180, 0, 77]
abbrev dktX2_join_1 : List UInt8 := dkwX2_join_1 ++ dktX2_join_2
def dkwX2_join_0 : List UInt8 := [42, 180, 0, 23, 27, 182, 0, 65, 192, 0, 56, 58, 4, 42, 180, 0, 20, 28, 182, 0, 65, 192, 0, 51]
abbrev dktX2_join_0 : List UInt8 := dkwX2_join_0 ++ dktX2_join_1
theorem dksX2_join_0 : cX2_join.data.toList.drop 0 = dktX2_join_0 := by decide +kernel
theorem dksX2_join_1 : cX2_join.data.toList.drop 24 = dktX2_join_1 := dk_seg dksX2_join_0 24 rfl rfl
theorem dksX2_join_2 : cX2_join.data.toList.drop 48 = dktX2_join_2 := dk_seg dksX2_join_1 24 rfl rfl
theorem dX2_join_0 : decode cX2_join 0 = .ok (.aload_n 0, 1) := dk_42 (dk_at dksX2_join_0 0 rfl rfl)
theorem dX2_join_1 : decode cX2_join 1 = .ok (.getfield 23, 3) := dk_180 0 23 (dk_at dksX2_join_0 1 rfl rfl)
theorem dX2_join_4 : decode cX2_join 4 = .ok (.iload_n 1, 1) := dk_27 (dk_at dksX2_join_0 4 rfl rfl)
theorem dX2_join_5 : decode cX2_join 5 = .ok (.invokevirtual 65, 3) := dk_182 0 65 (dk_at dksX2_join_0 5 rfl rfl)
theorem dX2_join_8 : decode cX2_join 8 = .ok (.checkcast 56, 3) := dk_192 0 56 (dk_at dksX2_join_0 8 rfl rfl)
theorem dX2_join_11 : decode cX2_join 11 = .ok (.astore 4, 2) := dk_58 4 (dk_at dksX2_join_0 11 rfl rfl)
theorem dX2_join_13 : decode cX2_join 13 = .ok (.aload_n 0, 1) := dk_42 (dk_at dksX2_join_0 13 rfl rfl)
theorem dX2_join_14 : decode cX2_join 14 = .ok (.getfield 20, 3) := dk_180 0 20 (dk_at dksX2_join_0 14 rfl rfl)
theorem dX2_join_17 : decode cX2_join 17 = .ok (.iload_n 2, 1) := dk_28 (dk_at dksX2_join_0 17 rfl rfl)
theorem dX2_join_18 : decode cX2_join 18 = .ok (.invokevirtual 65, 3) := dk_182 0 65 (dk_at dksX2_join_0 18 rfl rfl)
theorem dX2_join_21 : decode cX2_join 21 = .ok (.checkcast 51, 3) := dk_192 0 51 (dk_at dksX2_join_0 21 rfl rfl)
theorem dX2_join_24 : decode cX2_join 24 = .ok (.astore 5, 2) := dk_58 5 (dk_at dksX2_join_1 0 rfl rfl)
theorem dX2_join_26 : decode cX2_join 26 = .ok (.aload 4, 2) := dk_25 4 (dk_at dksX2_join_1 2 rfl rfl)
theorem dX2_join_28 : decode cX2_join 28 = .ok (.getfield 77, 3) := dk_180 0 77 (dk_at dksX2_join_1 4 rfl rfl)
theorem dX2_join_31 : decode cX2_join 31 = .ok (.iload_n 2, 1) := dk_28 (dk_at dksX2_join_1 7 rfl rfl)
theorem dX2_join_32 : decode cX2_join 32 = .ok (.invokestatic 61, 3) := dk_184 0 61 (dk_at dksX2_join_1 8 rfl rfl)
theorem dX2_join_35 : decode cX2_join 35 = .ok (.istore 6, 2) := dk_54 6 (dk_at dksX2_join_1 11 rfl rfl)
theorem dX2_join_37 : decode cX2_join 37 = .ok (.aload 4, 2) := dk_25 4 (dk_at dksX2_join_1 13 rfl rfl)
theorem dX2_join_39 : decode cX2_join 39 = .ok (.iload_n 3, 1) := dk_29 (dk_at dksX2_join_1 15 rfl rfl)
theorem dX2_join_40 : decode cX2_join 40 = .ok (.ifCond .eq 15, 3) := dk_153 0 15 (dk_at dksX2_join_1 16 rfl rfl)
theorem dX2_join_43 : decode cX2_join 43 = .ok (.aload 4, 2) := dk_25 4 (dk_at dksX2_join_1 19 rfl rfl)
theorem dX2_join_45 : decode cX2_join 45 = .ok (.getfield 77, 3) := dk_180 0 77 (dk_at dksX2_join_1 21 rfl rfl)
theorem dX2_join_48 : decode cX2_join 48 = .ok (.iconst 1, 1) := dk_4 (dk_at dksX2_join_2 0 rfl rfl)
theorem dX2_join_49 : decode cX2_join 49 = .ok (.iload_n 2, 1) := dk_28 (dk_at dksX2_join_2 1 rfl rfl)
theorem dX2_join_50 : decode cX2_join 50 = .ok (.ishl, 1) := dk_120 (dk_at dksX2_join_2 2 rfl rfl)
theorem dX2_join_51 : decode cX2_join 51 = .ok (.ior, 1) := dk_128 (dk_at dksX2_join_2 3 rfl rfl)
theorem dX2_join_52 : decode cX2_join 52 = .ok (.goto 14, 3) := dk_167 0 14 (dk_at dksX2_join_2 4 rfl rfl)
theorem dX2_join_55 : decode cX2_join 55 = .ok (.aload 4, 2) := dk_25 4 (dk_at dksX2_join_2 7 rfl rfl)
theorem dX2_join_57 : decode cX2_join 57 = .ok (.getfield 77, 3) := dk_180 0 77 (dk_at dksX2_join_2 9 rfl rfl)
theorem dX2_join_60 : decode cX2_join 60 = .ok (.iconst 1, 1) := dk_4 (dk_at dksX2_join_2 12 rfl rfl)
theorem dX2_join_61 : decode cX2_join 61 = .ok (.iload_n 2, 1) := dk_28 (dk_at dksX2_join_2 13 rfl rfl)
theorem dX2_join_62 : decode cX2_join 62 = .ok (.ishl, 1) := dk_120 (dk_at dksX2_join_2 14 rfl rfl)
theorem dX2_join_63 : decode cX2_join 63 = .ok (.iconst (-1), 1) := dk_2 (dk_at dksX2_join_2 15 rfl rfl)
theorem dX2_join_64 : decode cX2_join 64 = .ok (.ixor, 1) := dk_130 (dk_at dksX2_join_2 16 rfl rfl)
theorem dX2_join_65 : decode cX2_join 65 = .ok (.iand, 1) := dk_126 (dk_at dksX2_join_2 17 rfl rfl)
theorem dX2_join_66 : decode cX2_join 66 = .ok (.putfield 77, 3) := dk_181 0 77 (dk_at dksX2_join_2 18 rfl rfl)
theorem dX2_join_69 : decode cX2_join 69 = .ok (.iload 6, 2) := dk_21 6 (dk_at dksX2_join_2 21 rfl rfl)
theorem dX2_join_71 : decode cX2_join 71 = .ok (.ireturn, 1) := dk_172 (dk_at dksX2_join_2 23 rfl rfl)
abbrev cX2_link : ByteArray := prog_6_method_12_code
def yX2_link : MethodName := ⟨RX2, "link", "(IIZ)Z"⟩
def dkwX2_link_3 : List UInt8 := [180, 0, 69, 4, 28, 120, 2, 130, 126, 181, 0, 69, 21, 6, 172]
abbrev dktX2_link_3 : List UInt8 := dkwX2_link_3 ++ []
def dkwX2_link_2 : List UInt8 := [54, 6, 25, 4, 29, 153, 0, 15, 25, 4, 180, 0, 69, 4, 28, 120, 128, 167, 0, 14, 25, 4]
abbrev dktX2_link_2 : List UInt8 := dkwX2_link_2 ++ dktX2_link_3
def dkwX2_link_1 : List UInt8 := [58, 5, 28, 27, 162, 0, 7, 4, 167, 0, 4, 3, 184, 0, 114, 25, 4, 180, 0, 69, 28, 184, 0, 61]
abbrev dktX2_link_1 : List UInt8 := dkwX2_link_1 ++ dktX2_link_2
def dkwX2_link_0 : List UInt8 := [42, 180, 0, 23, 27, 182, 0, 65, 192, 0, 56, 58, 4, 42, 180, 0, 23, 28, 182, 0, 65, 192, 0, 56]
abbrev dktX2_link_0 : List UInt8 := dkwX2_link_0 ++ dktX2_link_1
theorem dksX2_link_0 : cX2_link.data.toList.drop 0 = dktX2_link_0 := by decide +kernel
theorem dksX2_link_1 : cX2_link.data.toList.drop 24 = dktX2_link_1 := dk_seg dksX2_link_0 24 rfl rfl
theorem dksX2_link_2 : cX2_link.data.toList.drop 48 = dktX2_link_2 := dk_seg dksX2_link_1 24 rfl rfl
theorem dksX2_link_3 : cX2_link.data.toList.drop 70 = dktX2_link_3 := dk_seg dksX2_link_2 22 rfl rfl
theorem dX2_link_0 : decode cX2_link 0 = .ok (.aload_n 0, 1) := dk_42 (dk_at dksX2_link_0 0 rfl rfl)
theorem dX2_link_1 : decode cX2_link 1 = .ok (.getfield 23, 3) := dk_180 0 23 (dk_at dksX2_link_0 1 rfl rfl)
theorem dX2_link_4 : decode cX2_link 4 = .ok (.iload_n 1, 1) := dk_27 (dk_at dksX2_link_0 4 rfl rfl)
theorem dX2_link_5 : decode cX2_link 5 = .ok (.invokevirtual 65, 3) := dk_182 0 65 (dk_at dksX2_link_0 5 rfl rfl)
theorem dX2_link_8 : decode cX2_link 8 = .ok (.checkcast 56, 3) := dk_192 0 56 (dk_at dksX2_link_0 8 rfl rfl)
theorem dX2_link_11 : decode cX2_link 11 = .ok (.astore 4, 2) := dk_58 4 (dk_at dksX2_link_0 11 rfl rfl)
theorem dX2_link_13 : decode cX2_link 13 = .ok (.aload_n 0, 1) := dk_42 (dk_at dksX2_link_0 13 rfl rfl)
theorem dX2_link_14 : decode cX2_link 14 = .ok (.getfield 23, 3) := dk_180 0 23 (dk_at dksX2_link_0 14 rfl rfl)
theorem dX2_link_17 : decode cX2_link 17 = .ok (.iload_n 2, 1) := dk_28 (dk_at dksX2_link_0 17 rfl rfl)
theorem dX2_link_18 : decode cX2_link 18 = .ok (.invokevirtual 65, 3) := dk_182 0 65 (dk_at dksX2_link_0 18 rfl rfl)
theorem dX2_link_21 : decode cX2_link 21 = .ok (.checkcast 56, 3) := dk_192 0 56 (dk_at dksX2_link_0 21 rfl rfl)
theorem dX2_link_24 : decode cX2_link 24 = .ok (.astore 5, 2) := dk_58 5 (dk_at dksX2_link_1 0 rfl rfl)
theorem dX2_link_26 : decode cX2_link 26 = .ok (.iload_n 2, 1) := dk_28 (dk_at dksX2_link_1 2 rfl rfl)
theorem dX2_link_27 : decode cX2_link 27 = .ok (.iload_n 1, 1) := dk_27 (dk_at dksX2_link_1 3 rfl rfl)
theorem dX2_link_28 : decode cX2_link 28 = .ok (.if_icmp .ge 7, 3) := dk_162 0 7 (dk_at dksX2_link_1 4 rfl rfl)
theorem dX2_link_31 : decode cX2_link 31 = .ok (.iconst 1, 1) := dk_4 (dk_at dksX2_link_1 7 rfl rfl)
theorem dX2_link_32 : decode cX2_link 32 = .ok (.goto 4, 3) := dk_167 0 4 (dk_at dksX2_link_1 8 rfl rfl)
theorem dX2_link_35 : decode cX2_link 35 = .ok (.iconst 0, 1) := dk_3 (dk_at dksX2_link_1 11 rfl rfl)
theorem dX2_link_36 : decode cX2_link 36 = .ok (.invokestatic 114, 3) := dk_184 0 114 (dk_at dksX2_link_1 12 rfl rfl)
theorem dX2_link_39 : decode cX2_link 39 = .ok (.aload 4, 2) := dk_25 4 (dk_at dksX2_link_1 15 rfl rfl)
theorem dX2_link_41 : decode cX2_link 41 = .ok (.getfield 69, 3) := dk_180 0 69 (dk_at dksX2_link_1 17 rfl rfl)
theorem dX2_link_44 : decode cX2_link 44 = .ok (.iload_n 2, 1) := dk_28 (dk_at dksX2_link_1 20 rfl rfl)
theorem dX2_link_45 : decode cX2_link 45 = .ok (.invokestatic 61, 3) := dk_184 0 61 (dk_at dksX2_link_1 21 rfl rfl)
theorem dX2_link_48 : decode cX2_link 48 = .ok (.istore 6, 2) := dk_54 6 (dk_at dksX2_link_2 0 rfl rfl)
theorem dX2_link_50 : decode cX2_link 50 = .ok (.aload 4, 2) := dk_25 4 (dk_at dksX2_link_2 2 rfl rfl)
theorem dX2_link_52 : decode cX2_link 52 = .ok (.iload_n 3, 1) := dk_29 (dk_at dksX2_link_2 4 rfl rfl)
theorem dX2_link_53 : decode cX2_link 53 = .ok (.ifCond .eq 15, 3) := dk_153 0 15 (dk_at dksX2_link_2 5 rfl rfl)
theorem dX2_link_56 : decode cX2_link 56 = .ok (.aload 4, 2) := dk_25 4 (dk_at dksX2_link_2 8 rfl rfl)
theorem dX2_link_58 : decode cX2_link 58 = .ok (.getfield 69, 3) := dk_180 0 69 (dk_at dksX2_link_2 10 rfl rfl)
theorem dX2_link_61 : decode cX2_link 61 = .ok (.iconst 1, 1) := dk_4 (dk_at dksX2_link_2 13 rfl rfl)
theorem dX2_link_62 : decode cX2_link 62 = .ok (.iload_n 2, 1) := dk_28 (dk_at dksX2_link_2 14 rfl rfl)
theorem dX2_link_63 : decode cX2_link 63 = .ok (.ishl, 1) := dk_120 (dk_at dksX2_link_2 15 rfl rfl)
theorem dX2_link_64 : decode cX2_link 64 = .ok (.ior, 1) := dk_128 (dk_at dksX2_link_2 16 rfl rfl)
theorem dX2_link_65 : decode cX2_link 65 = .ok (.goto 14, 3) := dk_167 0 14 (dk_at dksX2_link_2 17 rfl rfl)
theorem dX2_link_68 : decode cX2_link 68 = .ok (.aload 4, 2) := dk_25 4 (dk_at dksX2_link_2 20 rfl rfl)
theorem dX2_link_70 : decode cX2_link 70 = .ok (.getfield 69, 3) := dk_180 0 69 (dk_at dksX2_link_3 0 rfl rfl)
theorem dX2_link_73 : decode cX2_link 73 = .ok (.iconst 1, 1) := dk_4 (dk_at dksX2_link_3 3 rfl rfl)
theorem dX2_link_74 : decode cX2_link 74 = .ok (.iload_n 2, 1) := dk_28 (dk_at dksX2_link_3 4 rfl rfl)
theorem dX2_link_75 : decode cX2_link 75 = .ok (.ishl, 1) := dk_120 (dk_at dksX2_link_3 5 rfl rfl)
theorem dX2_link_76 : decode cX2_link 76 = .ok (.iconst (-1), 1) := dk_2 (dk_at dksX2_link_3 6 rfl rfl)
theorem dX2_link_77 : decode cX2_link 77 = .ok (.ixor, 1) := dk_130 (dk_at dksX2_link_3 7 rfl rfl)
theorem dX2_link_78 : decode cX2_link 78 = .ok (.iand, 1) := dk_126 (dk_at dksX2_link_3 8 rfl rfl)
theorem dX2_link_79 : decode cX2_link 79 = .ok (.putfield 69, 3) := dk_181 0 69 (dk_at dksX2_link_3 9 rfl rfl)
theorem dX2_link_82 : decode cX2_link 82 = .ok (.iload 6, 2) := dk_21 6 (dk_at dksX2_link_3 12 rfl rfl)
theorem dX2_link_84 : decode cX2_link 84 = .ok (.ireturn, 1) := dk_172 (dk_at dksX2_link_3 14 rfl rfl)
abbrev cX2_remove : ByteArray := prog_6_method_13_code
def yX2_remove : MethodName := ⟨RX2, "remove", "(II)I"⟩
def dkwX2_remove_3 : List UInt8 := [132, 5, 1, 167, 255, 204, 29, 184, 0, 124, 172]
abbrev dktX2_remove_3 : List UInt8 := dkwX2_remove_3 ++ []
def dkwX2_remove_2 : List UInt8 := [180, 0, 77, 21, 4, 21, 5, 184, 0, 61, 153, 0, 9, 29, 2, 130, 167, 0, 4, 2, 126, 181, 0, 77]
abbrev dktX2_remove_2 : List UInt8 := dkwX2_remove_2 ++ dktX2_remove_3
def dkwX2_remove_1 : List UInt8 := [180, 0, 23, 182, 0, 73, 162, 0, 46, 42, 180, 0, 23, 21, 5, 182, 0, 65, 192, 0, 56, 89]
abbrev dktX2_remove_1 : List UInt8 := dkwX2_remove_1 ++ dktX2_remove_2
def dkwX2_remove_0 : List UInt8 := [42, 27, 28, 182, 0, 117, 182, 0, 121, 62, 42, 27, 182, 0, 79, 54, 4, 3, 54, 5, 21, 5, 42]
abbrev dktX2_remove_0 : List UInt8 := dkwX2_remove_0 ++ dktX2_remove_1
theorem dksX2_remove_0 : cX2_remove.data.toList.drop 0 = dktX2_remove_0 := by decide +kernel
theorem dksX2_remove_1 : cX2_remove.data.toList.drop 23 = dktX2_remove_1 := dk_seg dksX2_remove_0 23 rfl rfl
theorem dksX2_remove_2 : cX2_remove.data.toList.drop 45 = dktX2_remove_2 := dk_seg dksX2_remove_1 22 rfl rfl
theorem dksX2_remove_3 : cX2_remove.data.toList.drop 69 = dktX2_remove_3 := dk_seg dksX2_remove_2 24 rfl rfl
theorem dX2_remove_0 : decode cX2_remove 0 = .ok (.aload_n 0, 1) := dk_42 (dk_at dksX2_remove_0 0 rfl rfl)
theorem dX2_remove_1 : decode cX2_remove 1 = .ok (.iload_n 1, 1) := dk_27 (dk_at dksX2_remove_0 1 rfl rfl)
theorem dX2_remove_2 : decode cX2_remove 2 = .ok (.iload_n 2, 1) := dk_28 (dk_at dksX2_remove_0 2 rfl rfl)
theorem dX2_remove_3 : decode cX2_remove 3 = .ok (.invokevirtual 117, 3) := dk_182 0 117 (dk_at dksX2_remove_0 3 rfl rfl)
theorem dX2_remove_6 : decode cX2_remove 6 = .ok (.invokevirtual 121, 3) := dk_182 0 121 (dk_at dksX2_remove_0 6 rfl rfl)
theorem dX2_remove_9 : decode cX2_remove 9 = .ok (.istore_n 3, 1) := dk_62 (dk_at dksX2_remove_0 9 rfl rfl)
theorem dX2_remove_10 : decode cX2_remove 10 = .ok (.aload_n 0, 1) := dk_42 (dk_at dksX2_remove_0 10 rfl rfl)
theorem dX2_remove_11 : decode cX2_remove 11 = .ok (.iload_n 1, 1) := dk_27 (dk_at dksX2_remove_0 11 rfl rfl)
theorem dX2_remove_12 : decode cX2_remove 12 = .ok (.invokevirtual 79, 3) := dk_182 0 79 (dk_at dksX2_remove_0 12 rfl rfl)
theorem dX2_remove_15 : decode cX2_remove 15 = .ok (.istore 4, 2) := dk_54 4 (dk_at dksX2_remove_0 15 rfl rfl)
theorem dX2_remove_17 : decode cX2_remove 17 = .ok (.iconst 0, 1) := dk_3 (dk_at dksX2_remove_0 17 rfl rfl)
theorem dX2_remove_18 : decode cX2_remove 18 = .ok (.istore 5, 2) := dk_54 5 (dk_at dksX2_remove_0 18 rfl rfl)
theorem dX2_remove_20 : decode cX2_remove 20 = .ok (.iload 5, 2) := dk_21 5 (dk_at dksX2_remove_0 20 rfl rfl)
theorem dX2_remove_22 : decode cX2_remove 22 = .ok (.aload_n 0, 1) := dk_42 (dk_at dksX2_remove_0 22 rfl rfl)
theorem dX2_remove_23 : decode cX2_remove 23 = .ok (.getfield 23, 3) := dk_180 0 23 (dk_at dksX2_remove_1 0 rfl rfl)
theorem dX2_remove_26 : decode cX2_remove 26 = .ok (.invokevirtual 73, 3) := dk_182 0 73 (dk_at dksX2_remove_1 3 rfl rfl)
theorem dX2_remove_29 : decode cX2_remove 29 = .ok (.if_icmp .ge 46, 3) := dk_162 0 46 (dk_at dksX2_remove_1 6 rfl rfl)
theorem dX2_remove_32 : decode cX2_remove 32 = .ok (.aload_n 0, 1) := dk_42 (dk_at dksX2_remove_1 9 rfl rfl)
theorem dX2_remove_33 : decode cX2_remove 33 = .ok (.getfield 23, 3) := dk_180 0 23 (dk_at dksX2_remove_1 10 rfl rfl)
theorem dX2_remove_36 : decode cX2_remove 36 = .ok (.iload 5, 2) := dk_21 5 (dk_at dksX2_remove_1 13 rfl rfl)
theorem dX2_remove_38 : decode cX2_remove 38 = .ok (.invokevirtual 65, 3) := dk_182 0 65 (dk_at dksX2_remove_1 15 rfl rfl)
theorem dX2_remove_41 : decode cX2_remove 41 = .ok (.checkcast 56, 3) := dk_192 0 56 (dk_at dksX2_remove_1 18 rfl rfl)
theorem dX2_remove_44 : decode cX2_remove 44 = .ok (.dup, 1) := dk_89 (dk_at dksX2_remove_1 21 rfl rfl)
theorem dX2_remove_45 : decode cX2_remove 45 = .ok (.getfield 77, 3) := dk_180 0 77 (dk_at dksX2_remove_2 0 rfl rfl)
theorem dX2_remove_48 : decode cX2_remove 48 = .ok (.iload 4, 2) := dk_21 4 (dk_at dksX2_remove_2 3 rfl rfl)
theorem dX2_remove_50 : decode cX2_remove 50 = .ok (.iload 5, 2) := dk_21 5 (dk_at dksX2_remove_2 5 rfl rfl)
theorem dX2_remove_52 : decode cX2_remove 52 = .ok (.invokestatic 61, 3) := dk_184 0 61 (dk_at dksX2_remove_2 7 rfl rfl)
theorem dX2_remove_55 : decode cX2_remove 55 = .ok (.ifCond .eq 9, 3) := dk_153 0 9 (dk_at dksX2_remove_2 10 rfl rfl)
theorem dX2_remove_58 : decode cX2_remove 58 = .ok (.iload_n 3, 1) := dk_29 (dk_at dksX2_remove_2 13 rfl rfl)
theorem dX2_remove_59 : decode cX2_remove 59 = .ok (.iconst (-1), 1) := dk_2 (dk_at dksX2_remove_2 14 rfl rfl)
theorem dX2_remove_60 : decode cX2_remove 60 = .ok (.ixor, 1) := dk_130 (dk_at dksX2_remove_2 15 rfl rfl)
theorem dX2_remove_61 : decode cX2_remove 61 = .ok (.goto 4, 3) := dk_167 0 4 (dk_at dksX2_remove_2 16 rfl rfl)
theorem dX2_remove_64 : decode cX2_remove 64 = .ok (.iconst (-1), 1) := dk_2 (dk_at dksX2_remove_2 19 rfl rfl)
theorem dX2_remove_65 : decode cX2_remove 65 = .ok (.iand, 1) := dk_126 (dk_at dksX2_remove_2 20 rfl rfl)
theorem dX2_remove_66 : decode cX2_remove 66 = .ok (.putfield 77, 3) := dk_181 0 77 (dk_at dksX2_remove_2 21 rfl rfl)
theorem dX2_remove_69 : decode cX2_remove 69 = .ok (.iinc 5 1, 3) := dk_132 5 1 (dk_at dksX2_remove_3 0 rfl rfl)
theorem dX2_remove_72 : decode cX2_remove 72 = .ok (.goto (-52), 3) := dk_167 255 204 (dk_at dksX2_remove_3 3 rfl rfl)
theorem dX2_remove_75 : decode cX2_remove 75 = .ok (.iload_n 3, 1) := dk_29 (dk_at dksX2_remove_3 6 rfl rfl)
theorem dX2_remove_76 : decode cX2_remove 76 = .ok (.invokestatic 124, 3) := dk_184 0 124 (dk_at dksX2_remove_3 7 rfl rfl)
theorem dX2_remove_79 : decode cX2_remove 79 = .ok (.ireturn, 1) := dk_172 (dk_at dksX2_remove_3 10 rfl rfl)
abbrev cX2_choice : ByteArray := prog_6_method_16_code
def yX2_choice : MethodName := ⟨RX2, "choice", "(II)LTermsDesk$Choice;"⟩
def dkwX2_choice_3 : List UInt8 := [182, 0, 149, 132, 6, 1, 167, 255, 205, 25, 4, 182, 0, 153, 192, 0, 142, 176]
abbrev dktX2_choice_3 : List UInt8 := dkwX2_choice_3 ++ []
def dkwX2_choice_2 : List UInt8 := [182, 0, 138, 25, 4, 187, 0, 142, 89, 21, 6, 45, 27, 28, 182, 0, 117, 182, 0, 144, 183, 0, 147]
abbrev dktX2_choice_2 : List UInt8 := dkwX2_choice_2 ++ dktX2_choice_3
def dkwX2_choice_1 : List UInt8 := [21, 6, 21, 5, 163, 0, 50, 21, 6, 21, 5, 2, 130, 126, 154, 0, 34, 45, 21, 5, 21, 6]
abbrev dktX2_choice_1 : List UInt8 := dkwX2_choice_1 ++ dktX2_choice_2
def dkwX2_choice_0 : List UInt8 := [42, 182, 0, 129, 78, 187, 0, 132, 89, 183, 0, 134, 58, 4, 42, 27, 182, 0, 135, 54, 5, 3, 54, 6]
abbrev dktX2_choice_0 : List UInt8 := dkwX2_choice_0 ++ dktX2_choice_1
theorem dksX2_choice_0 : cX2_choice.data.toList.drop 0 = dktX2_choice_0 := by decide +kernel
theorem dksX2_choice_1 : cX2_choice.data.toList.drop 24 = dktX2_choice_1 := dk_seg dksX2_choice_0 24 rfl rfl
theorem dksX2_choice_2 : cX2_choice.data.toList.drop 46 = dktX2_choice_2 := dk_seg dksX2_choice_1 22 rfl rfl
theorem dksX2_choice_3 : cX2_choice.data.toList.drop 69 = dktX2_choice_3 := dk_seg dksX2_choice_2 23 rfl rfl
theorem dX2_choice_0 : decode cX2_choice 0 = .ok (.aload_n 0, 1) := dk_42 (dk_at dksX2_choice_0 0 rfl rfl)
theorem dX2_choice_1 : decode cX2_choice 1 = .ok (.invokevirtual 129, 3) := dk_182 0 129 (dk_at dksX2_choice_0 1 rfl rfl)
theorem dX2_choice_4 : decode cX2_choice 4 = .ok (.astore_n 3, 1) := dk_78 (dk_at dksX2_choice_0 4 rfl rfl)
theorem dX2_choice_5 : decode cX2_choice 5 = .ok (.new 132, 3) := dk_187 0 132 (dk_at dksX2_choice_0 5 rfl rfl)
theorem dX2_choice_8 : decode cX2_choice 8 = .ok (.dup, 1) := dk_89 (dk_at dksX2_choice_0 8 rfl rfl)
theorem dX2_choice_9 : decode cX2_choice 9 = .ok (.invokespecial 134, 3) := dk_183 0 134 (dk_at dksX2_choice_0 9 rfl rfl)
theorem dX2_choice_12 : decode cX2_choice 12 = .ok (.astore 4, 2) := dk_58 4 (dk_at dksX2_choice_0 12 rfl rfl)
theorem dX2_choice_14 : decode cX2_choice 14 = .ok (.aload_n 0, 1) := dk_42 (dk_at dksX2_choice_0 14 rfl rfl)
theorem dX2_choice_15 : decode cX2_choice 15 = .ok (.iload_n 1, 1) := dk_27 (dk_at dksX2_choice_0 15 rfl rfl)
theorem dX2_choice_16 : decode cX2_choice 16 = .ok (.invokevirtual 135, 3) := dk_182 0 135 (dk_at dksX2_choice_0 16 rfl rfl)
theorem dX2_choice_19 : decode cX2_choice 19 = .ok (.istore 5, 2) := dk_54 5 (dk_at dksX2_choice_0 19 rfl rfl)
theorem dX2_choice_21 : decode cX2_choice 21 = .ok (.iconst 0, 1) := dk_3 (dk_at dksX2_choice_0 21 rfl rfl)
theorem dX2_choice_22 : decode cX2_choice 22 = .ok (.istore 6, 2) := dk_54 6 (dk_at dksX2_choice_0 22 rfl rfl)
theorem dX2_choice_24 : decode cX2_choice 24 = .ok (.iload 6, 2) := dk_21 6 (dk_at dksX2_choice_1 0 rfl rfl)
theorem dX2_choice_26 : decode cX2_choice 26 = .ok (.iload 5, 2) := dk_21 5 (dk_at dksX2_choice_1 2 rfl rfl)
theorem dX2_choice_28 : decode cX2_choice 28 = .ok (.if_icmp .gt 50, 3) := dk_163 0 50 (dk_at dksX2_choice_1 4 rfl rfl)
theorem dX2_choice_31 : decode cX2_choice 31 = .ok (.iload 6, 2) := dk_21 6 (dk_at dksX2_choice_1 7 rfl rfl)
theorem dX2_choice_33 : decode cX2_choice 33 = .ok (.iload 5, 2) := dk_21 5 (dk_at dksX2_choice_1 9 rfl rfl)
theorem dX2_choice_35 : decode cX2_choice 35 = .ok (.iconst (-1), 1) := dk_2 (dk_at dksX2_choice_1 11 rfl rfl)
theorem dX2_choice_36 : decode cX2_choice 36 = .ok (.ixor, 1) := dk_130 (dk_at dksX2_choice_1 12 rfl rfl)
theorem dX2_choice_37 : decode cX2_choice 37 = .ok (.iand, 1) := dk_126 (dk_at dksX2_choice_1 13 rfl rfl)
theorem dX2_choice_38 : decode cX2_choice 38 = .ok (.ifCond .ne 34, 3) := dk_154 0 34 (dk_at dksX2_choice_1 14 rfl rfl)
theorem dX2_choice_41 : decode cX2_choice 41 = .ok (.aload_n 3, 1) := dk_45 (dk_at dksX2_choice_1 17 rfl rfl)
theorem dX2_choice_42 : decode cX2_choice 42 = .ok (.iload 5, 2) := dk_21 5 (dk_at dksX2_choice_1 18 rfl rfl)
theorem dX2_choice_44 : decode cX2_choice 44 = .ok (.iload 6, 2) := dk_21 6 (dk_at dksX2_choice_1 20 rfl rfl)
theorem dX2_choice_46 : decode cX2_choice 46 = .ok (.invokevirtual 138, 3) := dk_182 0 138 (dk_at dksX2_choice_2 0 rfl rfl)
theorem dX2_choice_49 : decode cX2_choice 49 = .ok (.aload 4, 2) := dk_25 4 (dk_at dksX2_choice_2 3 rfl rfl)
theorem dX2_choice_51 : decode cX2_choice 51 = .ok (.new 142, 3) := dk_187 0 142 (dk_at dksX2_choice_2 5 rfl rfl)
theorem dX2_choice_54 : decode cX2_choice 54 = .ok (.dup, 1) := dk_89 (dk_at dksX2_choice_2 8 rfl rfl)
theorem dX2_choice_55 : decode cX2_choice 55 = .ok (.iload 6, 2) := dk_21 6 (dk_at dksX2_choice_2 9 rfl rfl)
theorem dX2_choice_57 : decode cX2_choice 57 = .ok (.aload_n 3, 1) := dk_45 (dk_at dksX2_choice_2 11 rfl rfl)
theorem dX2_choice_58 : decode cX2_choice 58 = .ok (.iload_n 1, 1) := dk_27 (dk_at dksX2_choice_2 12 rfl rfl)
theorem dX2_choice_59 : decode cX2_choice 59 = .ok (.iload_n 2, 1) := dk_28 (dk_at dksX2_choice_2 13 rfl rfl)
theorem dX2_choice_60 : decode cX2_choice 60 = .ok (.invokevirtual 117, 3) := dk_182 0 117 (dk_at dksX2_choice_2 14 rfl rfl)
theorem dX2_choice_63 : decode cX2_choice 63 = .ok (.invokevirtual 144, 3) := dk_182 0 144 (dk_at dksX2_choice_2 17 rfl rfl)
theorem dX2_choice_66 : decode cX2_choice 66 = .ok (.invokespecial 147, 3) := dk_183 0 147 (dk_at dksX2_choice_2 20 rfl rfl)
theorem dX2_choice_69 : decode cX2_choice 69 = .ok (.invokevirtual 149, 3) := dk_182 0 149 (dk_at dksX2_choice_3 0 rfl rfl)
theorem dX2_choice_72 : decode cX2_choice 72 = .ok (.iinc 6 1, 3) := dk_132 6 1 (dk_at dksX2_choice_3 3 rfl rfl)
theorem dX2_choice_75 : decode cX2_choice 75 = .ok (.goto (-51), 3) := dk_167 255 205 (dk_at dksX2_choice_3 6 rfl rfl)
theorem dX2_choice_78 : decode cX2_choice 78 = .ok (.aload 4, 2) := dk_25 4 (dk_at dksX2_choice_3 9 rfl rfl)
theorem dX2_choice_80 : decode cX2_choice 80 = .ok (.invokevirtual 153, 3) := dk_182 0 153 (dk_at dksX2_choice_3 11 rfl rfl)
theorem dX2_choice_83 : decode cX2_choice 83 = .ok (.checkcast 142, 3) := dk_192 0 142 (dk_at dksX2_choice_3 14 rfl rfl)
theorem dX2_choice_86 : decode cX2_choice 86 = .ok (.areturn, 1) := dk_176 (dk_at dksX2_choice_3 17 rfl rfl)
abbrev cX2_choices : ByteArray := prog_6_method_14_code
def yX2_choices : MethodName := ⟨RX2, "choices", "(I)I"⟩
def dkwX2_choices_2 : List UInt8 := [29, 120, 167, 0, 4, 3, 128, 61, 132, 3, 1, 167, 255, 203, 28, 172]
abbrev dktX2_choices_2 : List UInt8 := dkwX2_choices_2 ++ []
def dkwX2_choices_1 : List UInt8 := [184, 0, 61, 153, 0, 26, 42, 180, 0, 20, 29, 182, 0, 65, 192, 0, 51, 182, 0, 100, 153, 0, 9, 4]
abbrev dktX2_choices_1 : List UInt8 := dkwX2_choices_1 ++ dktX2_choices_2
def dkwX2_choices_0 : List UInt8 := [3, 61, 3, 62, 29, 42, 180, 0, 20, 182, 0, 73, 162, 0, 48, 28, 42, 27, 182, 0, 86, 29]
abbrev dktX2_choices_0 : List UInt8 := dkwX2_choices_0 ++ dktX2_choices_1
theorem dksX2_choices_0 : cX2_choices.data.toList.drop 0 = dktX2_choices_0 := by decide +kernel
theorem dksX2_choices_1 : cX2_choices.data.toList.drop 22 = dktX2_choices_1 := dk_seg dksX2_choices_0 22 rfl rfl
theorem dksX2_choices_2 : cX2_choices.data.toList.drop 46 = dktX2_choices_2 := dk_seg dksX2_choices_1 24 rfl rfl
theorem dX2_choices_0 : decode cX2_choices 0 = .ok (.iconst 0, 1) := dk_3 (dk_at dksX2_choices_0 0 rfl rfl)
theorem dX2_choices_1 : decode cX2_choices 1 = .ok (.istore_n 2, 1) := dk_61 (dk_at dksX2_choices_0 1 rfl rfl)
theorem dX2_choices_2 : decode cX2_choices 2 = .ok (.iconst 0, 1) := dk_3 (dk_at dksX2_choices_0 2 rfl rfl)
theorem dX2_choices_3 : decode cX2_choices 3 = .ok (.istore_n 3, 1) := dk_62 (dk_at dksX2_choices_0 3 rfl rfl)
theorem dX2_choices_4 : decode cX2_choices 4 = .ok (.iload_n 3, 1) := dk_29 (dk_at dksX2_choices_0 4 rfl rfl)
theorem dX2_choices_5 : decode cX2_choices 5 = .ok (.aload_n 0, 1) := dk_42 (dk_at dksX2_choices_0 5 rfl rfl)
theorem dX2_choices_6 : decode cX2_choices 6 = .ok (.getfield 20, 3) := dk_180 0 20 (dk_at dksX2_choices_0 6 rfl rfl)
theorem dX2_choices_9 : decode cX2_choices 9 = .ok (.invokevirtual 73, 3) := dk_182 0 73 (dk_at dksX2_choices_0 9 rfl rfl)
theorem dX2_choices_12 : decode cX2_choices 12 = .ok (.if_icmp .ge 48, 3) := dk_162 0 48 (dk_at dksX2_choices_0 12 rfl rfl)
theorem dX2_choices_15 : decode cX2_choices 15 = .ok (.iload_n 2, 1) := dk_28 (dk_at dksX2_choices_0 15 rfl rfl)
theorem dX2_choices_16 : decode cX2_choices 16 = .ok (.aload_n 0, 1) := dk_42 (dk_at dksX2_choices_0 16 rfl rfl)
theorem dX2_choices_17 : decode cX2_choices 17 = .ok (.iload_n 1, 1) := dk_27 (dk_at dksX2_choices_0 17 rfl rfl)
theorem dX2_choices_18 : decode cX2_choices 18 = .ok (.invokevirtual 86, 3) := dk_182 0 86 (dk_at dksX2_choices_0 18 rfl rfl)
theorem dX2_choices_21 : decode cX2_choices 21 = .ok (.iload_n 3, 1) := dk_29 (dk_at dksX2_choices_0 21 rfl rfl)
theorem dX2_choices_22 : decode cX2_choices 22 = .ok (.invokestatic 61, 3) := dk_184 0 61 (dk_at dksX2_choices_1 0 rfl rfl)
theorem dX2_choices_25 : decode cX2_choices 25 = .ok (.ifCond .eq 26, 3) := dk_153 0 26 (dk_at dksX2_choices_1 3 rfl rfl)
theorem dX2_choices_28 : decode cX2_choices 28 = .ok (.aload_n 0, 1) := dk_42 (dk_at dksX2_choices_1 6 rfl rfl)
theorem dX2_choices_29 : decode cX2_choices 29 = .ok (.getfield 20, 3) := dk_180 0 20 (dk_at dksX2_choices_1 7 rfl rfl)
theorem dX2_choices_32 : decode cX2_choices 32 = .ok (.iload_n 3, 1) := dk_29 (dk_at dksX2_choices_1 10 rfl rfl)
theorem dX2_choices_33 : decode cX2_choices 33 = .ok (.invokevirtual 65, 3) := dk_182 0 65 (dk_at dksX2_choices_1 11 rfl rfl)
theorem dX2_choices_36 : decode cX2_choices 36 = .ok (.checkcast 51, 3) := dk_192 0 51 (dk_at dksX2_choices_1 14 rfl rfl)
theorem dX2_choices_39 : decode cX2_choices 39 = .ok (.invokevirtual 100, 3) := dk_182 0 100 (dk_at dksX2_choices_1 17 rfl rfl)
theorem dX2_choices_42 : decode cX2_choices 42 = .ok (.ifCond .eq 9, 3) := dk_153 0 9 (dk_at dksX2_choices_1 20 rfl rfl)
theorem dX2_choices_45 : decode cX2_choices 45 = .ok (.iconst 1, 1) := dk_4 (dk_at dksX2_choices_1 23 rfl rfl)
theorem dX2_choices_46 : decode cX2_choices 46 = .ok (.iload_n 3, 1) := dk_29 (dk_at dksX2_choices_2 0 rfl rfl)
theorem dX2_choices_47 : decode cX2_choices 47 = .ok (.ishl, 1) := dk_120 (dk_at dksX2_choices_2 1 rfl rfl)
theorem dX2_choices_48 : decode cX2_choices 48 = .ok (.goto 4, 3) := dk_167 0 4 (dk_at dksX2_choices_2 2 rfl rfl)
theorem dX2_choices_51 : decode cX2_choices 51 = .ok (.iconst 0, 1) := dk_3 (dk_at dksX2_choices_2 5 rfl rfl)
theorem dX2_choices_52 : decode cX2_choices 52 = .ok (.ior, 1) := dk_128 (dk_at dksX2_choices_2 6 rfl rfl)
theorem dX2_choices_53 : decode cX2_choices 53 = .ok (.istore_n 2, 1) := dk_61 (dk_at dksX2_choices_2 7 rfl rfl)
theorem dX2_choices_54 : decode cX2_choices 54 = .ok (.iinc 3 1, 3) := dk_132 3 1 (dk_at dksX2_choices_2 8 rfl rfl)
theorem dX2_choices_57 : decode cX2_choices 57 = .ok (.goto (-53), 3) := dk_167 255 203 (dk_at dksX2_choices_2 11 rfl rfl)
theorem dX2_choices_60 : decode cX2_choices 60 = .ok (.iload_n 2, 1) := dk_28 (dk_at dksX2_choices_2 14 rfl rfl)
theorem dX2_choices_61 : decode cX2_choices 61 = .ok (.ireturn, 1) := dk_172 (dk_at dksX2_choices_2 15 rfl rfl)
abbrev cX2_take : ByteArray := prog_6_method_15_code
def yX2_take : MethodName := ⟨RX2, "take", "(II)V"⟩
def dkwX2_take_2 : List UInt8 := [177]
abbrev dktX2_take_2 : List UInt8 := dkwX2_take_2 ++ []
def dkwX2_take_1 : List UInt8 := [180, 0, 20, 29, 182, 0, 65, 192, 0, 51, 28, 29, 184, 0, 61, 181, 0, 107, 132, 3, 1, 167, 255, 215]
abbrev dktX2_take_1 : List UInt8 := dkwX2_take_1 ++ dktX2_take_2
def dkwX2_take_0 : List UInt8 := [3, 62, 29, 42, 180, 0, 20, 182, 0, 73, 162, 0, 36, 27, 29, 184, 0, 61, 153, 0, 22, 42]
abbrev dktX2_take_0 : List UInt8 := dkwX2_take_0 ++ dktX2_take_1
theorem dksX2_take_0 : cX2_take.data.toList.drop 0 = dktX2_take_0 := by decide +kernel
theorem dksX2_take_1 : cX2_take.data.toList.drop 22 = dktX2_take_1 := dk_seg dksX2_take_0 22 rfl rfl
theorem dksX2_take_2 : cX2_take.data.toList.drop 46 = dktX2_take_2 := dk_seg dksX2_take_1 24 rfl rfl
theorem dX2_take_0 : decode cX2_take 0 = .ok (.iconst 0, 1) := dk_3 (dk_at dksX2_take_0 0 rfl rfl)
theorem dX2_take_1 : decode cX2_take 1 = .ok (.istore_n 3, 1) := dk_62 (dk_at dksX2_take_0 1 rfl rfl)
theorem dX2_take_2 : decode cX2_take 2 = .ok (.iload_n 3, 1) := dk_29 (dk_at dksX2_take_0 2 rfl rfl)
theorem dX2_take_3 : decode cX2_take 3 = .ok (.aload_n 0, 1) := dk_42 (dk_at dksX2_take_0 3 rfl rfl)
theorem dX2_take_4 : decode cX2_take 4 = .ok (.getfield 20, 3) := dk_180 0 20 (dk_at dksX2_take_0 4 rfl rfl)
theorem dX2_take_7 : decode cX2_take 7 = .ok (.invokevirtual 73, 3) := dk_182 0 73 (dk_at dksX2_take_0 7 rfl rfl)
theorem dX2_take_10 : decode cX2_take 10 = .ok (.if_icmp .ge 36, 3) := dk_162 0 36 (dk_at dksX2_take_0 10 rfl rfl)
theorem dX2_take_13 : decode cX2_take 13 = .ok (.iload_n 1, 1) := dk_27 (dk_at dksX2_take_0 13 rfl rfl)
theorem dX2_take_14 : decode cX2_take 14 = .ok (.iload_n 3, 1) := dk_29 (dk_at dksX2_take_0 14 rfl rfl)
theorem dX2_take_15 : decode cX2_take 15 = .ok (.invokestatic 61, 3) := dk_184 0 61 (dk_at dksX2_take_0 15 rfl rfl)
theorem dX2_take_18 : decode cX2_take 18 = .ok (.ifCond .eq 22, 3) := dk_153 0 22 (dk_at dksX2_take_0 18 rfl rfl)
theorem dX2_take_21 : decode cX2_take 21 = .ok (.aload_n 0, 1) := dk_42 (dk_at dksX2_take_0 21 rfl rfl)
theorem dX2_take_22 : decode cX2_take 22 = .ok (.getfield 20, 3) := dk_180 0 20 (dk_at dksX2_take_1 0 rfl rfl)
theorem dX2_take_25 : decode cX2_take 25 = .ok (.iload_n 3, 1) := dk_29 (dk_at dksX2_take_1 3 rfl rfl)
theorem dX2_take_26 : decode cX2_take 26 = .ok (.invokevirtual 65, 3) := dk_182 0 65 (dk_at dksX2_take_1 4 rfl rfl)
theorem dX2_take_29 : decode cX2_take 29 = .ok (.checkcast 51, 3) := dk_192 0 51 (dk_at dksX2_take_1 7 rfl rfl)
theorem dX2_take_32 : decode cX2_take 32 = .ok (.iload_n 2, 1) := dk_28 (dk_at dksX2_take_1 10 rfl rfl)
theorem dX2_take_33 : decode cX2_take 33 = .ok (.iload_n 3, 1) := dk_29 (dk_at dksX2_take_1 11 rfl rfl)
theorem dX2_take_34 : decode cX2_take 34 = .ok (.invokestatic 61, 3) := dk_184 0 61 (dk_at dksX2_take_1 12 rfl rfl)
theorem dX2_take_37 : decode cX2_take 37 = .ok (.putfield 107, 3) := dk_181 0 107 (dk_at dksX2_take_1 15 rfl rfl)
theorem dX2_take_40 : decode cX2_take 40 = .ok (.iinc 3 1, 3) := dk_132 3 1 (dk_at dksX2_take_1 18 rfl rfl)
theorem dX2_take_43 : decode cX2_take 43 = .ok (.goto (-41), 3) := dk_167 255 215 (dk_at dksX2_take_1 21 rfl rfl)
theorem dX2_take_46 : decode cX2_take 46 = .ok (.return_, 1) := dk_177 (dk_at dksX2_take_2 0 rfl rfl)
abbrev cX2_choose : ByteArray := prog_6_method_17_code
def yX2_choose : MethodName := ⟨RX2, "choose", "(II)I"⟩
def dkwX2_choose_1 : List UInt8 := [172]
abbrev dktX2_choose_1 : List UInt8 := dkwX2_choose_1 ++ []
def dkwX2_choose_0 : List UInt8 := [42, 27, 28, 182, 0, 156, 78, 42, 42, 27, 182, 0, 135, 45, 180, 0, 160, 182, 0, 138, 45, 180, 0, 163]
abbrev dktX2_choose_0 : List UInt8 := dkwX2_choose_0 ++ dktX2_choose_1
theorem dksX2_choose_0 : cX2_choose.data.toList.drop 0 = dktX2_choose_0 := by decide +kernel
theorem dksX2_choose_1 : cX2_choose.data.toList.drop 24 = dktX2_choose_1 := dk_seg dksX2_choose_0 24 rfl rfl
theorem dX2_choose_0 : decode cX2_choose 0 = .ok (.aload_n 0, 1) := dk_42 (dk_at dksX2_choose_0 0 rfl rfl)
theorem dX2_choose_1 : decode cX2_choose 1 = .ok (.iload_n 1, 1) := dk_27 (dk_at dksX2_choose_0 1 rfl rfl)
theorem dX2_choose_2 : decode cX2_choose 2 = .ok (.iload_n 2, 1) := dk_28 (dk_at dksX2_choose_0 2 rfl rfl)
theorem dX2_choose_3 : decode cX2_choose 3 = .ok (.invokevirtual 156, 3) := dk_182 0 156 (dk_at dksX2_choose_0 3 rfl rfl)
theorem dX2_choose_6 : decode cX2_choose 6 = .ok (.astore_n 3, 1) := dk_78 (dk_at dksX2_choose_0 6 rfl rfl)
theorem dX2_choose_7 : decode cX2_choose 7 = .ok (.aload_n 0, 1) := dk_42 (dk_at dksX2_choose_0 7 rfl rfl)
theorem dX2_choose_8 : decode cX2_choose 8 = .ok (.aload_n 0, 1) := dk_42 (dk_at dksX2_choose_0 8 rfl rfl)
theorem dX2_choose_9 : decode cX2_choose 9 = .ok (.iload_n 1, 1) := dk_27 (dk_at dksX2_choose_0 9 rfl rfl)
theorem dX2_choose_10 : decode cX2_choose 10 = .ok (.invokevirtual 135, 3) := dk_182 0 135 (dk_at dksX2_choose_0 10 rfl rfl)
theorem dX2_choose_13 : decode cX2_choose 13 = .ok (.aload_n 3, 1) := dk_45 (dk_at dksX2_choose_0 13 rfl rfl)
theorem dX2_choose_14 : decode cX2_choose 14 = .ok (.getfield 160, 3) := dk_180 0 160 (dk_at dksX2_choose_0 14 rfl rfl)
theorem dX2_choose_17 : decode cX2_choose 17 = .ok (.invokevirtual 138, 3) := dk_182 0 138 (dk_at dksX2_choose_0 17 rfl rfl)
theorem dX2_choose_20 : decode cX2_choose 20 = .ok (.aload_n 3, 1) := dk_45 (dk_at dksX2_choose_0 20 rfl rfl)
theorem dX2_choose_21 : decode cX2_choose 21 = .ok (.getfield 163, 3) := dk_180 0 163 (dk_at dksX2_choose_0 21 rfl rfl)
theorem dX2_choose_24 : decode cX2_choose 24 = .ok (.ireturn, 1) := dk_172 (dk_at dksX2_choose_1 0 rfl rfl)
abbrev cX2_ship : ByteArray := prog_6_method_18_code
def yX2_ship : MethodName := ⟨RX2, "ship", "(I)I"⟩
def dkwX2_ship_2 : List UInt8 := [89, 180, 0, 183, 4, 96, 181, 0, 183, 25, 4, 180, 0, 180, 182, 0, 186, 172]
abbrev dktX2_ship_2 : List UInt8 := dkwX2_ship_2 ++ []
def dkwX2_ship_1 : List UInt8 := [180, 0, 23, 27, 182, 0, 65, 192, 0, 56, 58, 4, 25, 4, 42, 44, 182, 0, 176, 181, 0, 180, 25, 4]
abbrev dktX2_ship_1 : List UInt8 := dkwX2_ship_1 ++ dktX2_ship_2
def dkwX2_ship_0 : List UInt8 := [42, 27, 7, 182, 0, 117, 77, 187, 0, 165, 89, 44, 3, 182, 0, 167, 183, 0, 171, 191, 78, 42]
abbrev dktX2_ship_0 : List UInt8 := dkwX2_ship_0 ++ dktX2_ship_1
theorem dksX2_ship_0 : cX2_ship.data.toList.drop 0 = dktX2_ship_0 := by decide +kernel
theorem dksX2_ship_1 : cX2_ship.data.toList.drop 22 = dktX2_ship_1 := dk_seg dksX2_ship_0 22 rfl rfl
theorem dksX2_ship_2 : cX2_ship.data.toList.drop 46 = dktX2_ship_2 := dk_seg dksX2_ship_1 24 rfl rfl
theorem dX2_ship_0 : decode cX2_ship 0 = .ok (.aload_n 0, 1) := dk_42 (dk_at dksX2_ship_0 0 rfl rfl)
theorem dX2_ship_1 : decode cX2_ship 1 = .ok (.iload_n 1, 1) := dk_27 (dk_at dksX2_ship_0 1 rfl rfl)
theorem dX2_ship_2 : decode cX2_ship 2 = .ok (.iconst 4, 1) := dk_7 (dk_at dksX2_ship_0 2 rfl rfl)
theorem dX2_ship_3 : decode cX2_ship 3 = .ok (.invokevirtual 117, 3) := dk_182 0 117 (dk_at dksX2_ship_0 3 rfl rfl)
theorem dX2_ship_6 : decode cX2_ship 6 = .ok (.astore_n 2, 1) := dk_77 (dk_at dksX2_ship_0 6 rfl rfl)
theorem dX2_ship_7 : decode cX2_ship 7 = .ok (.new 165, 3) := dk_187 0 165 (dk_at dksX2_ship_0 7 rfl rfl)
theorem dX2_ship_10 : decode cX2_ship 10 = .ok (.dup, 1) := dk_89 (dk_at dksX2_ship_0 10 rfl rfl)
theorem dX2_ship_11 : decode cX2_ship 11 = .ok (.aload_n 2, 1) := dk_44 (dk_at dksX2_ship_0 11 rfl rfl)
theorem dX2_ship_12 : decode cX2_ship 12 = .ok (.iconst 0, 1) := dk_3 (dk_at dksX2_ship_0 12 rfl rfl)
theorem dX2_ship_13 : decode cX2_ship 13 = .ok (.invokevirtual 167, 3) := dk_182 0 167 (dk_at dksX2_ship_0 13 rfl rfl)
theorem dX2_ship_16 : decode cX2_ship 16 = .ok (.invokespecial 171, 3) := dk_183 0 171 (dk_at dksX2_ship_0 16 rfl rfl)
theorem dX2_ship_19 : decode cX2_ship 19 = .ok (.athrow, 1) := dk_191 (dk_at dksX2_ship_0 19 rfl rfl)
theorem dX2_ship_20 : decode cX2_ship 20 = .ok (.astore_n 3, 1) := dk_78 (dk_at dksX2_ship_0 20 rfl rfl)
theorem dX2_ship_21 : decode cX2_ship 21 = .ok (.aload_n 0, 1) := dk_42 (dk_at dksX2_ship_0 21 rfl rfl)
theorem dX2_ship_22 : decode cX2_ship 22 = .ok (.getfield 23, 3) := dk_180 0 23 (dk_at dksX2_ship_1 0 rfl rfl)
theorem dX2_ship_25 : decode cX2_ship 25 = .ok (.iload_n 1, 1) := dk_27 (dk_at dksX2_ship_1 3 rfl rfl)
theorem dX2_ship_26 : decode cX2_ship 26 = .ok (.invokevirtual 65, 3) := dk_182 0 65 (dk_at dksX2_ship_1 4 rfl rfl)
theorem dX2_ship_29 : decode cX2_ship 29 = .ok (.checkcast 56, 3) := dk_192 0 56 (dk_at dksX2_ship_1 7 rfl rfl)
theorem dX2_ship_32 : decode cX2_ship 32 = .ok (.astore 4, 2) := dk_58 4 (dk_at dksX2_ship_1 10 rfl rfl)
theorem dX2_ship_34 : decode cX2_ship 34 = .ok (.aload 4, 2) := dk_25 4 (dk_at dksX2_ship_1 12 rfl rfl)
theorem dX2_ship_36 : decode cX2_ship 36 = .ok (.aload_n 0, 1) := dk_42 (dk_at dksX2_ship_1 14 rfl rfl)
theorem dX2_ship_37 : decode cX2_ship 37 = .ok (.aload_n 2, 1) := dk_44 (dk_at dksX2_ship_1 15 rfl rfl)
theorem dX2_ship_38 : decode cX2_ship 38 = .ok (.invokevirtual 176, 3) := dk_182 0 176 (dk_at dksX2_ship_1 16 rfl rfl)
theorem dX2_ship_41 : decode cX2_ship 41 = .ok (.putfield 180, 3) := dk_181 0 180 (dk_at dksX2_ship_1 19 rfl rfl)
theorem dX2_ship_44 : decode cX2_ship 44 = .ok (.aload 4, 2) := dk_25 4 (dk_at dksX2_ship_1 22 rfl rfl)
theorem dX2_ship_46 : decode cX2_ship 46 = .ok (.dup, 1) := dk_89 (dk_at dksX2_ship_2 0 rfl rfl)
theorem dX2_ship_47 : decode cX2_ship 47 = .ok (.getfield 183, 3) := dk_180 0 183 (dk_at dksX2_ship_2 1 rfl rfl)
theorem dX2_ship_50 : decode cX2_ship 50 = .ok (.iconst 1, 1) := dk_4 (dk_at dksX2_ship_2 4 rfl rfl)
theorem dX2_ship_51 : decode cX2_ship 51 = .ok (.iadd, 1) := dk_96 (dk_at dksX2_ship_2 5 rfl rfl)
theorem dX2_ship_52 : decode cX2_ship 52 = .ok (.putfield 183, 3) := dk_181 0 183 (dk_at dksX2_ship_2 6 rfl rfl)
theorem dX2_ship_55 : decode cX2_ship 55 = .ok (.aload 4, 2) := dk_25 4 (dk_at dksX2_ship_2 9 rfl rfl)
theorem dX2_ship_57 : decode cX2_ship 57 = .ok (.getfield 180, 3) := dk_180 0 180 (dk_at dksX2_ship_2 11 rfl rfl)
theorem dX2_ship_60 : decode cX2_ship 60 = .ok (.invokevirtual 186, 3) := dk_182 0 186 (dk_at dksX2_ship_2 14 rfl rfl)
theorem dX2_ship_63 : decode cX2_ship 63 = .ok (.ireturn, 1) := dk_172 (dk_at dksX2_ship_2 17 rfl rfl)
abbrev cX2_notice : ByteArray := prog_6_method_19_code
def yX2_notice : MethodName := ⟨RX2, "notice", "(LTermsDesk$Deed;)Ljava/lang/String;"⟩
def dkwX2_notice_5 : List UInt8 := [182, 0, 204, 87, 132, 3, 1, 167, 255, 142, 44, 182, 0, 223, 176]
abbrev dktX2_notice_5 : List UInt8 := dkwX2_notice_5 ++ []
def dkwX2_notice_4 : List UInt8 := [187, 0, 191, 89, 183, 0, 193, 18, 221, 182, 0, 204, 21, 5, 184, 0, 213, 182, 0, 204, 182, 0, 223]
abbrev dktX2_notice_4 : List UInt8 := dkwX2_notice_4 ++ dktX2_notice_5
def dkwX2_notice_3 : List UInt8 := [182, 0, 204, 87, 42, 43, 21, 4, 182, 0, 217, 54, 5, 44, 21, 5, 154, 0, 8, 18, 200, 167, 0, 26]
abbrev dktX2_notice_3 : List UInt8 := dkwX2_notice_3 ++ dktX2_notice_4
def dkwX2_notice_2 : List UInt8 := [18, 200, 167, 0, 5, 18, 202, 182, 0, 204, 29, 182, 0, 208, 18, 211, 182, 0, 204, 21, 4, 184, 0, 213]
abbrev dktX2_notice_2 : List UInt8 := dkwX2_notice_2 ++ dktX2_notice_3
def dkwX2_notice_1 : List UInt8 := [182, 0, 194, 43, 182, 0, 197, 126, 54, 4, 21, 4, 153, 0, 86, 44, 44, 182, 0, 199, 154, 0, 8]
abbrev dktX2_notice_1 : List UInt8 := dkwX2_notice_1 ++ dktX2_notice_2
def dkwX2_notice_0 : List UInt8 := [187, 0, 191, 89, 183, 0, 193, 77, 3, 62, 29, 42, 180, 0, 14, 182, 0, 73, 162, 0, 109, 42, 29]
abbrev dktX2_notice_0 : List UInt8 := dkwX2_notice_0 ++ dktX2_notice_1
theorem dksX2_notice_0 : cX2_notice.data.toList.drop 0 = dktX2_notice_0 := by decide +kernel
theorem dksX2_notice_1 : cX2_notice.data.toList.drop 23 = dktX2_notice_1 := dk_seg dksX2_notice_0 23 rfl rfl
theorem dksX2_notice_2 : cX2_notice.data.toList.drop 46 = dktX2_notice_2 := dk_seg dksX2_notice_1 23 rfl rfl
theorem dksX2_notice_3 : cX2_notice.data.toList.drop 70 = dktX2_notice_3 := dk_seg dksX2_notice_2 24 rfl rfl
theorem dksX2_notice_4 : cX2_notice.data.toList.drop 94 = dktX2_notice_4 := dk_seg dksX2_notice_3 24 rfl rfl
theorem dksX2_notice_5 : cX2_notice.data.toList.drop 117 = dktX2_notice_5 := dk_seg dksX2_notice_4 23 rfl rfl
theorem dX2_notice_0 : decode cX2_notice 0 = .ok (.new 191, 3) := dk_187 0 191 (dk_at dksX2_notice_0 0 rfl rfl)
theorem dX2_notice_3 : decode cX2_notice 3 = .ok (.dup, 1) := dk_89 (dk_at dksX2_notice_0 3 rfl rfl)
theorem dX2_notice_4 : decode cX2_notice 4 = .ok (.invokespecial 193, 3) := dk_183 0 193 (dk_at dksX2_notice_0 4 rfl rfl)
theorem dX2_notice_7 : decode cX2_notice 7 = .ok (.astore_n 2, 1) := dk_77 (dk_at dksX2_notice_0 7 rfl rfl)
theorem dX2_notice_8 : decode cX2_notice 8 = .ok (.iconst 0, 1) := dk_3 (dk_at dksX2_notice_0 8 rfl rfl)
theorem dX2_notice_9 : decode cX2_notice 9 = .ok (.istore_n 3, 1) := dk_62 (dk_at dksX2_notice_0 9 rfl rfl)
theorem dX2_notice_10 : decode cX2_notice 10 = .ok (.iload_n 3, 1) := dk_29 (dk_at dksX2_notice_0 10 rfl rfl)
theorem dX2_notice_11 : decode cX2_notice 11 = .ok (.aload_n 0, 1) := dk_42 (dk_at dksX2_notice_0 11 rfl rfl)
theorem dX2_notice_12 : decode cX2_notice 12 = .ok (.getfield 14, 3) := dk_180 0 14 (dk_at dksX2_notice_0 12 rfl rfl)
theorem dX2_notice_15 : decode cX2_notice 15 = .ok (.invokevirtual 73, 3) := dk_182 0 73 (dk_at dksX2_notice_0 15 rfl rfl)
theorem dX2_notice_18 : decode cX2_notice 18 = .ok (.if_icmp .ge 109, 3) := dk_162 0 109 (dk_at dksX2_notice_0 18 rfl rfl)
theorem dX2_notice_21 : decode cX2_notice 21 = .ok (.aload_n 0, 1) := dk_42 (dk_at dksX2_notice_0 21 rfl rfl)
theorem dX2_notice_22 : decode cX2_notice 22 = .ok (.iload_n 3, 1) := dk_29 (dk_at dksX2_notice_0 22 rfl rfl)
theorem dX2_notice_23 : decode cX2_notice 23 = .ok (.invokevirtual 194, 3) := dk_182 0 194 (dk_at dksX2_notice_1 0 rfl rfl)
theorem dX2_notice_26 : decode cX2_notice 26 = .ok (.aload_n 1, 1) := dk_43 (dk_at dksX2_notice_1 3 rfl rfl)
theorem dX2_notice_27 : decode cX2_notice 27 = .ok (.invokevirtual 197, 3) := dk_182 0 197 (dk_at dksX2_notice_1 4 rfl rfl)
theorem dX2_notice_30 : decode cX2_notice 30 = .ok (.iand, 1) := dk_126 (dk_at dksX2_notice_1 7 rfl rfl)
theorem dX2_notice_31 : decode cX2_notice 31 = .ok (.istore 4, 2) := dk_54 4 (dk_at dksX2_notice_1 8 rfl rfl)
theorem dX2_notice_33 : decode cX2_notice 33 = .ok (.iload 4, 2) := dk_21 4 (dk_at dksX2_notice_1 10 rfl rfl)
theorem dX2_notice_35 : decode cX2_notice 35 = .ok (.ifCond .eq 86, 3) := dk_153 0 86 (dk_at dksX2_notice_1 12 rfl rfl)
theorem dX2_notice_38 : decode cX2_notice 38 = .ok (.aload_n 2, 1) := dk_44 (dk_at dksX2_notice_1 15 rfl rfl)
theorem dX2_notice_39 : decode cX2_notice 39 = .ok (.aload_n 2, 1) := dk_44 (dk_at dksX2_notice_1 16 rfl rfl)
theorem dX2_notice_40 : decode cX2_notice 40 = .ok (.invokevirtual 199, 3) := dk_182 0 199 (dk_at dksX2_notice_1 17 rfl rfl)
theorem dX2_notice_43 : decode cX2_notice 43 = .ok (.ifCond .ne 8, 3) := dk_154 0 8 (dk_at dksX2_notice_1 20 rfl rfl)
theorem dX2_notice_46 : decode cX2_notice 46 = .ok (.ldc 200, 2) := dk_18 200 (dk_at dksX2_notice_2 0 rfl rfl)
theorem dX2_notice_48 : decode cX2_notice 48 = .ok (.goto 5, 3) := dk_167 0 5 (dk_at dksX2_notice_2 2 rfl rfl)
theorem dX2_notice_51 : decode cX2_notice 51 = .ok (.ldc 202, 2) := dk_18 202 (dk_at dksX2_notice_2 5 rfl rfl)
theorem dX2_notice_53 : decode cX2_notice 53 = .ok (.invokevirtual 204, 3) := dk_182 0 204 (dk_at dksX2_notice_2 7 rfl rfl)
theorem dX2_notice_56 : decode cX2_notice 56 = .ok (.iload_n 3, 1) := dk_29 (dk_at dksX2_notice_2 10 rfl rfl)
theorem dX2_notice_57 : decode cX2_notice 57 = .ok (.invokevirtual 208, 3) := dk_182 0 208 (dk_at dksX2_notice_2 11 rfl rfl)
theorem dX2_notice_60 : decode cX2_notice 60 = .ok (.ldc 211, 2) := dk_18 211 (dk_at dksX2_notice_2 14 rfl rfl)
theorem dX2_notice_62 : decode cX2_notice 62 = .ok (.invokevirtual 204, 3) := dk_182 0 204 (dk_at dksX2_notice_2 16 rfl rfl)
theorem dX2_notice_65 : decode cX2_notice 65 = .ok (.iload 4, 2) := dk_21 4 (dk_at dksX2_notice_2 19 rfl rfl)
theorem dX2_notice_67 : decode cX2_notice 67 = .ok (.invokestatic 213, 3) := dk_184 0 213 (dk_at dksX2_notice_2 21 rfl rfl)
theorem dX2_notice_70 : decode cX2_notice 70 = .ok (.invokevirtual 204, 3) := dk_182 0 204 (dk_at dksX2_notice_3 0 rfl rfl)
theorem dX2_notice_73 : decode cX2_notice 73 = .ok (.pop, 1) := dk_87 (dk_at dksX2_notice_3 3 rfl rfl)
theorem dX2_notice_74 : decode cX2_notice 74 = .ok (.aload_n 0, 1) := dk_42 (dk_at dksX2_notice_3 4 rfl rfl)
theorem dX2_notice_75 : decode cX2_notice 75 = .ok (.aload_n 1, 1) := dk_43 (dk_at dksX2_notice_3 5 rfl rfl)
theorem dX2_notice_76 : decode cX2_notice 76 = .ok (.iload 4, 2) := dk_21 4 (dk_at dksX2_notice_3 6 rfl rfl)
theorem dX2_notice_78 : decode cX2_notice 78 = .ok (.invokevirtual 217, 3) := dk_182 0 217 (dk_at dksX2_notice_3 8 rfl rfl)
theorem dX2_notice_81 : decode cX2_notice 81 = .ok (.istore 5, 2) := dk_54 5 (dk_at dksX2_notice_3 11 rfl rfl)
theorem dX2_notice_83 : decode cX2_notice 83 = .ok (.aload_n 2, 1) := dk_44 (dk_at dksX2_notice_3 13 rfl rfl)
theorem dX2_notice_84 : decode cX2_notice 84 = .ok (.iload 5, 2) := dk_21 5 (dk_at dksX2_notice_3 14 rfl rfl)
theorem dX2_notice_86 : decode cX2_notice 86 = .ok (.ifCond .ne 8, 3) := dk_154 0 8 (dk_at dksX2_notice_3 16 rfl rfl)
theorem dX2_notice_89 : decode cX2_notice 89 = .ok (.ldc 200, 2) := dk_18 200 (dk_at dksX2_notice_3 19 rfl rfl)
theorem dX2_notice_91 : decode cX2_notice 91 = .ok (.goto 26, 3) := dk_167 0 26 (dk_at dksX2_notice_3 21 rfl rfl)
theorem dX2_notice_94 : decode cX2_notice 94 = .ok (.new 191, 3) := dk_187 0 191 (dk_at dksX2_notice_4 0 rfl rfl)
theorem dX2_notice_97 : decode cX2_notice 97 = .ok (.dup, 1) := dk_89 (dk_at dksX2_notice_4 3 rfl rfl)
theorem dX2_notice_98 : decode cX2_notice 98 = .ok (.invokespecial 193, 3) := dk_183 0 193 (dk_at dksX2_notice_4 4 rfl rfl)
theorem dX2_notice_101 : decode cX2_notice 101 = .ok (.ldc 221, 2) := dk_18 221 (dk_at dksX2_notice_4 7 rfl rfl)
theorem dX2_notice_103 : decode cX2_notice 103 = .ok (.invokevirtual 204, 3) := dk_182 0 204 (dk_at dksX2_notice_4 9 rfl rfl)
theorem dX2_notice_106 : decode cX2_notice 106 = .ok (.iload 5, 2) := dk_21 5 (dk_at dksX2_notice_4 12 rfl rfl)
theorem dX2_notice_108 : decode cX2_notice 108 = .ok (.invokestatic 213, 3) := dk_184 0 213 (dk_at dksX2_notice_4 14 rfl rfl)
theorem dX2_notice_111 : decode cX2_notice 111 = .ok (.invokevirtual 204, 3) := dk_182 0 204 (dk_at dksX2_notice_4 17 rfl rfl)
theorem dX2_notice_114 : decode cX2_notice 114 = .ok (.invokevirtual 223, 3) := dk_182 0 223 (dk_at dksX2_notice_4 20 rfl rfl)
theorem dX2_notice_117 : decode cX2_notice 117 = .ok (.invokevirtual 204, 3) := dk_182 0 204 (dk_at dksX2_notice_5 0 rfl rfl)
theorem dX2_notice_120 : decode cX2_notice 120 = .ok (.pop, 1) := dk_87 (dk_at dksX2_notice_5 3 rfl rfl)
theorem dX2_notice_121 : decode cX2_notice 121 = .ok (.iinc 3 1, 3) := dk_132 3 1 (dk_at dksX2_notice_5 4 rfl rfl)
theorem dX2_notice_124 : decode cX2_notice 124 = .ok (.goto (-114), 3) := dk_167 255 142 (dk_at dksX2_notice_5 7 rfl rfl)
theorem dX2_notice_127 : decode cX2_notice 127 = .ok (.aload_n 2, 1) := dk_44 (dk_at dksX2_notice_5 10 rfl rfl)
theorem dX2_notice_128 : decode cX2_notice 128 = .ok (.invokevirtual 223, 3) := dk_182 0 223 (dk_at dksX2_notice_5 11 rfl rfl)
theorem dX2_notice_131 : decode cX2_notice 131 = .ok (.areturn, 1) := dk_176 (dk_at dksX2_notice_5 14 rfl rfl)
abbrev cX2_taken : ByteArray := prog_6_method_22_code
def yX2_taken : MethodName := ⟨RX2, "taken", "(I)I"⟩
def dkwX2_taken_2 : List UInt8 := [167, 255, 214, 28, 172]
abbrev dktX2_taken_2 : List UInt8 := dkwX2_taken_2 ++ []
def dkwX2_taken_1 : List UInt8 := [192, 0, 51, 182, 0, 111, 27, 160, 0, 9, 4, 29, 120, 167, 0, 4, 3, 128, 61, 132, 3, 1]
abbrev dktX2_taken_1 : List UInt8 := dkwX2_taken_1 ++ dktX2_taken_2
def dkwX2_taken_0 : List UInt8 := [3, 61, 3, 62, 29, 42, 180, 0, 20, 182, 0, 73, 162, 0, 37, 28, 42, 180, 0, 20, 29, 182, 0, 65]
abbrev dktX2_taken_0 : List UInt8 := dkwX2_taken_0 ++ dktX2_taken_1
theorem dksX2_taken_0 : cX2_taken.data.toList.drop 0 = dktX2_taken_0 := by decide +kernel
theorem dksX2_taken_1 : cX2_taken.data.toList.drop 24 = dktX2_taken_1 := dk_seg dksX2_taken_0 24 rfl rfl
theorem dksX2_taken_2 : cX2_taken.data.toList.drop 46 = dktX2_taken_2 := dk_seg dksX2_taken_1 22 rfl rfl
theorem dX2_taken_0 : decode cX2_taken 0 = .ok (.iconst 0, 1) := dk_3 (dk_at dksX2_taken_0 0 rfl rfl)
theorem dX2_taken_1 : decode cX2_taken 1 = .ok (.istore_n 2, 1) := dk_61 (dk_at dksX2_taken_0 1 rfl rfl)
theorem dX2_taken_2 : decode cX2_taken 2 = .ok (.iconst 0, 1) := dk_3 (dk_at dksX2_taken_0 2 rfl rfl)
theorem dX2_taken_3 : decode cX2_taken 3 = .ok (.istore_n 3, 1) := dk_62 (dk_at dksX2_taken_0 3 rfl rfl)
theorem dX2_taken_4 : decode cX2_taken 4 = .ok (.iload_n 3, 1) := dk_29 (dk_at dksX2_taken_0 4 rfl rfl)
theorem dX2_taken_5 : decode cX2_taken 5 = .ok (.aload_n 0, 1) := dk_42 (dk_at dksX2_taken_0 5 rfl rfl)
theorem dX2_taken_6 : decode cX2_taken 6 = .ok (.getfield 20, 3) := dk_180 0 20 (dk_at dksX2_taken_0 6 rfl rfl)
theorem dX2_taken_9 : decode cX2_taken 9 = .ok (.invokevirtual 73, 3) := dk_182 0 73 (dk_at dksX2_taken_0 9 rfl rfl)
theorem dX2_taken_12 : decode cX2_taken 12 = .ok (.if_icmp .ge 37, 3) := dk_162 0 37 (dk_at dksX2_taken_0 12 rfl rfl)
theorem dX2_taken_15 : decode cX2_taken 15 = .ok (.iload_n 2, 1) := dk_28 (dk_at dksX2_taken_0 15 rfl rfl)
theorem dX2_taken_16 : decode cX2_taken 16 = .ok (.aload_n 0, 1) := dk_42 (dk_at dksX2_taken_0 16 rfl rfl)
theorem dX2_taken_17 : decode cX2_taken 17 = .ok (.getfield 20, 3) := dk_180 0 20 (dk_at dksX2_taken_0 17 rfl rfl)
theorem dX2_taken_20 : decode cX2_taken 20 = .ok (.iload_n 3, 1) := dk_29 (dk_at dksX2_taken_0 20 rfl rfl)
theorem dX2_taken_21 : decode cX2_taken 21 = .ok (.invokevirtual 65, 3) := dk_182 0 65 (dk_at dksX2_taken_0 21 rfl rfl)
theorem dX2_taken_24 : decode cX2_taken 24 = .ok (.checkcast 51, 3) := dk_192 0 51 (dk_at dksX2_taken_1 0 rfl rfl)
theorem dX2_taken_27 : decode cX2_taken 27 = .ok (.invokevirtual 111, 3) := dk_182 0 111 (dk_at dksX2_taken_1 3 rfl rfl)
theorem dX2_taken_30 : decode cX2_taken 30 = .ok (.iload_n 1, 1) := dk_27 (dk_at dksX2_taken_1 6 rfl rfl)
theorem dX2_taken_31 : decode cX2_taken 31 = .ok (.if_icmp .ne 9, 3) := dk_160 0 9 (dk_at dksX2_taken_1 7 rfl rfl)
theorem dX2_taken_34 : decode cX2_taken 34 = .ok (.iconst 1, 1) := dk_4 (dk_at dksX2_taken_1 10 rfl rfl)
theorem dX2_taken_35 : decode cX2_taken 35 = .ok (.iload_n 3, 1) := dk_29 (dk_at dksX2_taken_1 11 rfl rfl)
theorem dX2_taken_36 : decode cX2_taken 36 = .ok (.ishl, 1) := dk_120 (dk_at dksX2_taken_1 12 rfl rfl)
theorem dX2_taken_37 : decode cX2_taken 37 = .ok (.goto 4, 3) := dk_167 0 4 (dk_at dksX2_taken_1 13 rfl rfl)
theorem dX2_taken_40 : decode cX2_taken 40 = .ok (.iconst 0, 1) := dk_3 (dk_at dksX2_taken_1 16 rfl rfl)
theorem dX2_taken_41 : decode cX2_taken 41 = .ok (.ior, 1) := dk_128 (dk_at dksX2_taken_1 17 rfl rfl)
theorem dX2_taken_42 : decode cX2_taken 42 = .ok (.istore_n 2, 1) := dk_61 (dk_at dksX2_taken_1 18 rfl rfl)
theorem dX2_taken_43 : decode cX2_taken 43 = .ok (.iinc 3 1, 3) := dk_132 3 1 (dk_at dksX2_taken_1 19 rfl rfl)
theorem dX2_taken_46 : decode cX2_taken 46 = .ok (.goto (-42), 3) := dk_167 255 214 (dk_at dksX2_taken_2 0 rfl rfl)
theorem dX2_taken_49 : decode cX2_taken 49 = .ok (.iload_n 2, 1) := dk_28 (dk_at dksX2_taken_2 3 rfl rfl)
theorem dX2_taken_50 : decode cX2_taken 50 = .ok (.ireturn, 1) := dk_172 (dk_at dksX2_taken_2 4 rfl rfl)
abbrev cX2_numbers : ByteArray := prog_6_method_20_code
def yX2_numbers : MethodName := ⟨RX2, "numbers", "(I)Ljava/lang/String;"⟩
def dkwX2_numbers_2 : List UInt8 := [167, 0, 5, 18, 200, 182, 0, 204, 87, 132, 2, 1, 167, 255, 210, 43, 182, 0, 223, 176]
abbrev dktX2_numbers_2 : List UInt8 := dkwX2_numbers_2 ++ []
def dkwX2_numbers_1 : List UInt8 := [153, 0, 25, 187, 0, 191, 89, 183, 0, 193, 18, 227, 182, 0, 204, 28, 182, 0, 208, 182, 0, 223]
abbrev dktX2_numbers_1 : List UInt8 := dkwX2_numbers_1 ++ dktX2_numbers_2
def dkwX2_numbers_0 : List UInt8 := [187, 0, 191, 89, 183, 0, 193, 76, 3, 61, 28, 16, 10, 162, 0, 46, 43, 26, 28, 184, 0, 61]
abbrev dktX2_numbers_0 : List UInt8 := dkwX2_numbers_0 ++ dktX2_numbers_1
theorem dksX2_numbers_0 : cX2_numbers.data.toList.drop 0 = dktX2_numbers_0 := by decide +kernel
theorem dksX2_numbers_1 : cX2_numbers.data.toList.drop 22 = dktX2_numbers_1 := dk_seg dksX2_numbers_0 22 rfl rfl
theorem dksX2_numbers_2 : cX2_numbers.data.toList.drop 44 = dktX2_numbers_2 := dk_seg dksX2_numbers_1 22 rfl rfl
theorem dX2_numbers_0 : decode cX2_numbers 0 = .ok (.new 191, 3) := dk_187 0 191 (dk_at dksX2_numbers_0 0 rfl rfl)
theorem dX2_numbers_3 : decode cX2_numbers 3 = .ok (.dup, 1) := dk_89 (dk_at dksX2_numbers_0 3 rfl rfl)
theorem dX2_numbers_4 : decode cX2_numbers 4 = .ok (.invokespecial 193, 3) := dk_183 0 193 (dk_at dksX2_numbers_0 4 rfl rfl)
theorem dX2_numbers_7 : decode cX2_numbers 7 = .ok (.astore_n 1, 1) := dk_76 (dk_at dksX2_numbers_0 7 rfl rfl)
theorem dX2_numbers_8 : decode cX2_numbers 8 = .ok (.iconst 0, 1) := dk_3 (dk_at dksX2_numbers_0 8 rfl rfl)
theorem dX2_numbers_9 : decode cX2_numbers 9 = .ok (.istore_n 2, 1) := dk_61 (dk_at dksX2_numbers_0 9 rfl rfl)
theorem dX2_numbers_10 : decode cX2_numbers 10 = .ok (.iload_n 2, 1) := dk_28 (dk_at dksX2_numbers_0 10 rfl rfl)
theorem dX2_numbers_11 : decode cX2_numbers 11 = .ok (.bipush 10, 2) := dk_16 10 (dk_at dksX2_numbers_0 11 rfl rfl)
theorem dX2_numbers_13 : decode cX2_numbers 13 = .ok (.if_icmp .ge 46, 3) := dk_162 0 46 (dk_at dksX2_numbers_0 13 rfl rfl)
theorem dX2_numbers_16 : decode cX2_numbers 16 = .ok (.aload_n 1, 1) := dk_43 (dk_at dksX2_numbers_0 16 rfl rfl)
theorem dX2_numbers_17 : decode cX2_numbers 17 = .ok (.iload_n 0, 1) := dk_26 (dk_at dksX2_numbers_0 17 rfl rfl)
theorem dX2_numbers_18 : decode cX2_numbers 18 = .ok (.iload_n 2, 1) := dk_28 (dk_at dksX2_numbers_0 18 rfl rfl)
theorem dX2_numbers_19 : decode cX2_numbers 19 = .ok (.invokestatic 61, 3) := dk_184 0 61 (dk_at dksX2_numbers_0 19 rfl rfl)
theorem dX2_numbers_22 : decode cX2_numbers 22 = .ok (.ifCond .eq 25, 3) := dk_153 0 25 (dk_at dksX2_numbers_1 0 rfl rfl)
theorem dX2_numbers_25 : decode cX2_numbers 25 = .ok (.new 191, 3) := dk_187 0 191 (dk_at dksX2_numbers_1 3 rfl rfl)
theorem dX2_numbers_28 : decode cX2_numbers 28 = .ok (.dup, 1) := dk_89 (dk_at dksX2_numbers_1 6 rfl rfl)
theorem dX2_numbers_29 : decode cX2_numbers 29 = .ok (.invokespecial 193, 3) := dk_183 0 193 (dk_at dksX2_numbers_1 7 rfl rfl)
theorem dX2_numbers_32 : decode cX2_numbers 32 = .ok (.ldc 227, 2) := dk_18 227 (dk_at dksX2_numbers_1 10 rfl rfl)
theorem dX2_numbers_34 : decode cX2_numbers 34 = .ok (.invokevirtual 204, 3) := dk_182 0 204 (dk_at dksX2_numbers_1 12 rfl rfl)
theorem dX2_numbers_37 : decode cX2_numbers 37 = .ok (.iload_n 2, 1) := dk_28 (dk_at dksX2_numbers_1 15 rfl rfl)
theorem dX2_numbers_38 : decode cX2_numbers 38 = .ok (.invokevirtual 208, 3) := dk_182 0 208 (dk_at dksX2_numbers_1 16 rfl rfl)
theorem dX2_numbers_41 : decode cX2_numbers 41 = .ok (.invokevirtual 223, 3) := dk_182 0 223 (dk_at dksX2_numbers_1 19 rfl rfl)
theorem dX2_numbers_44 : decode cX2_numbers 44 = .ok (.goto 5, 3) := dk_167 0 5 (dk_at dksX2_numbers_2 0 rfl rfl)
theorem dX2_numbers_47 : decode cX2_numbers 47 = .ok (.ldc 200, 2) := dk_18 200 (dk_at dksX2_numbers_2 3 rfl rfl)
theorem dX2_numbers_49 : decode cX2_numbers 49 = .ok (.invokevirtual 204, 3) := dk_182 0 204 (dk_at dksX2_numbers_2 5 rfl rfl)
theorem dX2_numbers_52 : decode cX2_numbers 52 = .ok (.pop, 1) := dk_87 (dk_at dksX2_numbers_2 8 rfl rfl)
theorem dX2_numbers_53 : decode cX2_numbers 53 = .ok (.iinc 2 1, 3) := dk_132 2 1 (dk_at dksX2_numbers_2 9 rfl rfl)
theorem dX2_numbers_56 : decode cX2_numbers 56 = .ok (.goto (-46), 3) := dk_167 255 210 (dk_at dksX2_numbers_2 12 rfl rfl)
theorem dX2_numbers_59 : decode cX2_numbers 59 = .ok (.aload_n 1, 1) := dk_43 (dk_at dksX2_numbers_2 15 rfl rfl)
theorem dX2_numbers_60 : decode cX2_numbers 60 = .ok (.invokevirtual 223, 3) := dk_182 0 223 (dk_at dksX2_numbers_2 16 rfl rfl)
theorem dX2_numbers_63 : decode cX2_numbers 63 = .ok (.areturn, 1) := dk_176 (dk_at dksX2_numbers_2 19 rfl rfl)
abbrev cX2_dueOf : ByteArray := prog_6_method_21_code
def yX2_dueOf : MethodName := ⟨RX2, "dueOf", "(LTermsDesk$Deed;I)I"⟩
def dkwX2_dueOf_1 : List UInt8 := [153, 0, 12, 43, 21, 4, 182, 0, 229, 167, 0, 4, 3, 128, 62, 132, 4, 1, 167, 255, 219, 29, 172]
abbrev dktX2_dueOf_1 : List UInt8 := dkwX2_dueOf_1 ++ []
def dkwX2_dueOf_0 : List UInt8 := [3, 62, 3, 54, 4, 21, 4, 42, 180, 0, 20, 182, 0, 73, 162, 0, 31, 29, 28, 21, 4, 184, 0, 61]
abbrev dktX2_dueOf_0 : List UInt8 := dkwX2_dueOf_0 ++ dktX2_dueOf_1
theorem dksX2_dueOf_0 : cX2_dueOf.data.toList.drop 0 = dktX2_dueOf_0 := by decide +kernel
theorem dksX2_dueOf_1 : cX2_dueOf.data.toList.drop 24 = dktX2_dueOf_1 := dk_seg dksX2_dueOf_0 24 rfl rfl
theorem dX2_dueOf_0 : decode cX2_dueOf 0 = .ok (.iconst 0, 1) := dk_3 (dk_at dksX2_dueOf_0 0 rfl rfl)
theorem dX2_dueOf_1 : decode cX2_dueOf 1 = .ok (.istore_n 3, 1) := dk_62 (dk_at dksX2_dueOf_0 1 rfl rfl)
theorem dX2_dueOf_2 : decode cX2_dueOf 2 = .ok (.iconst 0, 1) := dk_3 (dk_at dksX2_dueOf_0 2 rfl rfl)
theorem dX2_dueOf_3 : decode cX2_dueOf 3 = .ok (.istore 4, 2) := dk_54 4 (dk_at dksX2_dueOf_0 3 rfl rfl)
theorem dX2_dueOf_5 : decode cX2_dueOf 5 = .ok (.iload 4, 2) := dk_21 4 (dk_at dksX2_dueOf_0 5 rfl rfl)
theorem dX2_dueOf_7 : decode cX2_dueOf 7 = .ok (.aload_n 0, 1) := dk_42 (dk_at dksX2_dueOf_0 7 rfl rfl)
theorem dX2_dueOf_8 : decode cX2_dueOf 8 = .ok (.getfield 20, 3) := dk_180 0 20 (dk_at dksX2_dueOf_0 8 rfl rfl)
theorem dX2_dueOf_11 : decode cX2_dueOf 11 = .ok (.invokevirtual 73, 3) := dk_182 0 73 (dk_at dksX2_dueOf_0 11 rfl rfl)
theorem dX2_dueOf_14 : decode cX2_dueOf 14 = .ok (.if_icmp .ge 31, 3) := dk_162 0 31 (dk_at dksX2_dueOf_0 14 rfl rfl)
theorem dX2_dueOf_17 : decode cX2_dueOf 17 = .ok (.iload_n 3, 1) := dk_29 (dk_at dksX2_dueOf_0 17 rfl rfl)
theorem dX2_dueOf_18 : decode cX2_dueOf 18 = .ok (.iload_n 2, 1) := dk_28 (dk_at dksX2_dueOf_0 18 rfl rfl)
theorem dX2_dueOf_19 : decode cX2_dueOf 19 = .ok (.iload 4, 2) := dk_21 4 (dk_at dksX2_dueOf_0 19 rfl rfl)
theorem dX2_dueOf_21 : decode cX2_dueOf 21 = .ok (.invokestatic 61, 3) := dk_184 0 61 (dk_at dksX2_dueOf_0 21 rfl rfl)
theorem dX2_dueOf_24 : decode cX2_dueOf 24 = .ok (.ifCond .eq 12, 3) := dk_153 0 12 (dk_at dksX2_dueOf_1 0 rfl rfl)
theorem dX2_dueOf_27 : decode cX2_dueOf 27 = .ok (.aload_n 1, 1) := dk_43 (dk_at dksX2_dueOf_1 3 rfl rfl)
theorem dX2_dueOf_28 : decode cX2_dueOf 28 = .ok (.iload 4, 2) := dk_21 4 (dk_at dksX2_dueOf_1 4 rfl rfl)
theorem dX2_dueOf_30 : decode cX2_dueOf 30 = .ok (.invokevirtual 229, 3) := dk_182 0 229 (dk_at dksX2_dueOf_1 6 rfl rfl)
theorem dX2_dueOf_33 : decode cX2_dueOf 33 = .ok (.goto 4, 3) := dk_167 0 4 (dk_at dksX2_dueOf_1 9 rfl rfl)
theorem dX2_dueOf_36 : decode cX2_dueOf 36 = .ok (.iconst 0, 1) := dk_3 (dk_at dksX2_dueOf_1 12 rfl rfl)
theorem dX2_dueOf_37 : decode cX2_dueOf 37 = .ok (.ior, 1) := dk_128 (dk_at dksX2_dueOf_1 13 rfl rfl)
theorem dX2_dueOf_38 : decode cX2_dueOf 38 = .ok (.istore_n 3, 1) := dk_62 (dk_at dksX2_dueOf_1 14 rfl rfl)
theorem dX2_dueOf_39 : decode cX2_dueOf 39 = .ok (.iinc 4 1, 3) := dk_132 4 1 (dk_at dksX2_dueOf_1 15 rfl rfl)
theorem dX2_dueOf_42 : decode cX2_dueOf 42 = .ok (.goto (-37), 3) := dk_167 255 219 (dk_at dksX2_dueOf_1 18 rfl rfl)
theorem dX2_dueOf_45 : decode cX2_dueOf 45 = .ok (.iload_n 3, 1) := dk_29 (dk_at dksX2_dueOf_1 21 rfl rfl)
theorem dX2_dueOf_46 : decode cX2_dueOf 46 = .ok (.ireturn, 1) := dk_172 (dk_at dksX2_dueOf_1 22 rfl rfl)
abbrev cX2_sizes : ByteArray := prog_6_method_23_code
def yX2_sizes : MethodName := ⟨RX2, "sizes", "(I)I"⟩
def dkwX2_sizes_2 : List UInt8 := [167, 255, 213, 28, 172]
abbrev dktX2_sizes_2 : List UInt8 := dkwX2_sizes_2 ++ []
def dkwX2_sizes_1 : List UInt8 := [42, 180, 0, 20, 29, 182, 0, 65, 192, 0, 51, 180, 0, 232, 167, 0, 4, 3, 96, 61, 132, 3, 1]
abbrev dktX2_sizes_1 : List UInt8 := dkwX2_sizes_1 ++ dktX2_sizes_2
def dkwX2_sizes_0 : List UInt8 := [3, 61, 3, 62, 29, 42, 180, 0, 20, 182, 0, 73, 162, 0, 38, 28, 27, 29, 184, 0, 61, 153, 0, 20]
abbrev dktX2_sizes_0 : List UInt8 := dkwX2_sizes_0 ++ dktX2_sizes_1
theorem dksX2_sizes_0 : cX2_sizes.data.toList.drop 0 = dktX2_sizes_0 := by decide +kernel
theorem dksX2_sizes_1 : cX2_sizes.data.toList.drop 24 = dktX2_sizes_1 := dk_seg dksX2_sizes_0 24 rfl rfl
theorem dksX2_sizes_2 : cX2_sizes.data.toList.drop 47 = dktX2_sizes_2 := dk_seg dksX2_sizes_1 23 rfl rfl
theorem dX2_sizes_0 : decode cX2_sizes 0 = .ok (.iconst 0, 1) := dk_3 (dk_at dksX2_sizes_0 0 rfl rfl)
theorem dX2_sizes_1 : decode cX2_sizes 1 = .ok (.istore_n 2, 1) := dk_61 (dk_at dksX2_sizes_0 1 rfl rfl)
theorem dX2_sizes_2 : decode cX2_sizes 2 = .ok (.iconst 0, 1) := dk_3 (dk_at dksX2_sizes_0 2 rfl rfl)
theorem dX2_sizes_3 : decode cX2_sizes 3 = .ok (.istore_n 3, 1) := dk_62 (dk_at dksX2_sizes_0 3 rfl rfl)
theorem dX2_sizes_4 : decode cX2_sizes 4 = .ok (.iload_n 3, 1) := dk_29 (dk_at dksX2_sizes_0 4 rfl rfl)
theorem dX2_sizes_5 : decode cX2_sizes 5 = .ok (.aload_n 0, 1) := dk_42 (dk_at dksX2_sizes_0 5 rfl rfl)
theorem dX2_sizes_6 : decode cX2_sizes 6 = .ok (.getfield 20, 3) := dk_180 0 20 (dk_at dksX2_sizes_0 6 rfl rfl)
theorem dX2_sizes_9 : decode cX2_sizes 9 = .ok (.invokevirtual 73, 3) := dk_182 0 73 (dk_at dksX2_sizes_0 9 rfl rfl)
theorem dX2_sizes_12 : decode cX2_sizes 12 = .ok (.if_icmp .ge 38, 3) := dk_162 0 38 (dk_at dksX2_sizes_0 12 rfl rfl)
theorem dX2_sizes_15 : decode cX2_sizes 15 = .ok (.iload_n 2, 1) := dk_28 (dk_at dksX2_sizes_0 15 rfl rfl)
theorem dX2_sizes_16 : decode cX2_sizes 16 = .ok (.iload_n 1, 1) := dk_27 (dk_at dksX2_sizes_0 16 rfl rfl)
theorem dX2_sizes_17 : decode cX2_sizes 17 = .ok (.iload_n 3, 1) := dk_29 (dk_at dksX2_sizes_0 17 rfl rfl)
theorem dX2_sizes_18 : decode cX2_sizes 18 = .ok (.invokestatic 61, 3) := dk_184 0 61 (dk_at dksX2_sizes_0 18 rfl rfl)
theorem dX2_sizes_21 : decode cX2_sizes 21 = .ok (.ifCond .eq 20, 3) := dk_153 0 20 (dk_at dksX2_sizes_0 21 rfl rfl)
theorem dX2_sizes_24 : decode cX2_sizes 24 = .ok (.aload_n 0, 1) := dk_42 (dk_at dksX2_sizes_1 0 rfl rfl)
theorem dX2_sizes_25 : decode cX2_sizes 25 = .ok (.getfield 20, 3) := dk_180 0 20 (dk_at dksX2_sizes_1 1 rfl rfl)
theorem dX2_sizes_28 : decode cX2_sizes 28 = .ok (.iload_n 3, 1) := dk_29 (dk_at dksX2_sizes_1 4 rfl rfl)
theorem dX2_sizes_29 : decode cX2_sizes 29 = .ok (.invokevirtual 65, 3) := dk_182 0 65 (dk_at dksX2_sizes_1 5 rfl rfl)
theorem dX2_sizes_32 : decode cX2_sizes 32 = .ok (.checkcast 51, 3) := dk_192 0 51 (dk_at dksX2_sizes_1 8 rfl rfl)
theorem dX2_sizes_35 : decode cX2_sizes 35 = .ok (.getfield 232, 3) := dk_180 0 232 (dk_at dksX2_sizes_1 11 rfl rfl)
theorem dX2_sizes_38 : decode cX2_sizes 38 = .ok (.goto 4, 3) := dk_167 0 4 (dk_at dksX2_sizes_1 14 rfl rfl)
theorem dX2_sizes_41 : decode cX2_sizes 41 = .ok (.iconst 0, 1) := dk_3 (dk_at dksX2_sizes_1 17 rfl rfl)
theorem dX2_sizes_42 : decode cX2_sizes 42 = .ok (.iadd, 1) := dk_96 (dk_at dksX2_sizes_1 18 rfl rfl)
theorem dX2_sizes_43 : decode cX2_sizes 43 = .ok (.istore_n 2, 1) := dk_61 (dk_at dksX2_sizes_1 19 rfl rfl)
theorem dX2_sizes_44 : decode cX2_sizes 44 = .ok (.iinc 3 1, 3) := dk_132 3 1 (dk_at dksX2_sizes_1 20 rfl rfl)
theorem dX2_sizes_47 : decode cX2_sizes 47 = .ok (.goto (-43), 3) := dk_167 255 213 (dk_at dksX2_sizes_2 0 rfl rfl)
theorem dX2_sizes_50 : decode cX2_sizes 50 = .ok (.iload_n 2, 1) := dk_28 (dk_at dksX2_sizes_2 3 rfl rfl)
theorem dX2_sizes_51 : decode cX2_sizes 51 = .ok (.ireturn, 1) := dk_172 (dk_at dksX2_sizes_2 4 rfl rfl)
abbrev cX2_withChoice : ByteArray := prog_6_method_24_code
def yX2_withChoice : MethodName := ⟨RX2, "withChoice", "(Z)I"⟩
def dkwX2_withChoice_3 : List UInt8 := [167, 255, 200, 28, 172]
abbrev dktX2_withChoice_3 : List UInt8 := dkwX2_withChoice_3 ++ []
def dkwX2_withChoice_2 : List UInt8 := [167, 0, 20, 3, 167, 0, 16, 25, 4, 182, 0, 100, 153, 0, 7, 4, 167, 0, 4, 3, 96, 61]
abbrev dktX2_withChoice_2 : List UInt8 := dkwX2_withChoice_2 ++ dktX2_withChoice_3
def dkwX2_withChoice_1 : List UInt8 := [185, 0, 37, 1, 0, 192, 0, 51, 58, 4, 28, 27, 153, 0, 19, 25, 4, 180, 0, 107, 153, 0, 7, 4]
abbrev dktX2_withChoice_1 : List UInt8 := dkwX2_withChoice_1 ++ dktX2_withChoice_2
def dkwX2_withChoice_0 : List UInt8 := [3, 61, 42, 180, 0, 20, 182, 0, 27, 78, 45, 185, 0, 31, 1, 0, 153, 0, 53, 45]
abbrev dktX2_withChoice_0 : List UInt8 := dkwX2_withChoice_0 ++ dktX2_withChoice_1
theorem dksX2_withChoice_0 : cX2_withChoice.data.toList.drop 0 = dktX2_withChoice_0 := by decide +kernel
theorem dksX2_withChoice_1 : cX2_withChoice.data.toList.drop 20 = dktX2_withChoice_1 := dk_seg dksX2_withChoice_0 20 rfl rfl
theorem dksX2_withChoice_2 : cX2_withChoice.data.toList.drop 44 = dktX2_withChoice_2 := dk_seg dksX2_withChoice_1 24 rfl rfl
theorem dksX2_withChoice_3 : cX2_withChoice.data.toList.drop 66 = dktX2_withChoice_3 := dk_seg dksX2_withChoice_2 22 rfl rfl
theorem dX2_withChoice_0 : decode cX2_withChoice 0 = .ok (.iconst 0, 1) := dk_3 (dk_at dksX2_withChoice_0 0 rfl rfl)
theorem dX2_withChoice_1 : decode cX2_withChoice 1 = .ok (.istore_n 2, 1) := dk_61 (dk_at dksX2_withChoice_0 1 rfl rfl)
theorem dX2_withChoice_2 : decode cX2_withChoice 2 = .ok (.aload_n 0, 1) := dk_42 (dk_at dksX2_withChoice_0 2 rfl rfl)
theorem dX2_withChoice_3 : decode cX2_withChoice 3 = .ok (.getfield 20, 3) := dk_180 0 20 (dk_at dksX2_withChoice_0 3 rfl rfl)
theorem dX2_withChoice_6 : decode cX2_withChoice 6 = .ok (.invokevirtual 27, 3) := dk_182 0 27 (dk_at dksX2_withChoice_0 6 rfl rfl)
theorem dX2_withChoice_9 : decode cX2_withChoice 9 = .ok (.astore_n 3, 1) := dk_78 (dk_at dksX2_withChoice_0 9 rfl rfl)
theorem dX2_withChoice_10 : decode cX2_withChoice 10 = .ok (.aload_n 3, 1) := dk_45 (dk_at dksX2_withChoice_0 10 rfl rfl)
theorem dX2_withChoice_11 : decode cX2_withChoice 11 = .ok (.invokeinterface 31 1, 5) := by decide +kernel
theorem dX2_withChoice_16 : decode cX2_withChoice 16 = .ok (.ifCond .eq 53, 3) := dk_153 0 53 (dk_at dksX2_withChoice_0 16 rfl rfl)
theorem dX2_withChoice_19 : decode cX2_withChoice 19 = .ok (.aload_n 3, 1) := dk_45 (dk_at dksX2_withChoice_0 19 rfl rfl)
theorem dX2_withChoice_20 : decode cX2_withChoice 20 = .ok (.invokeinterface 37 1, 5) := by decide +kernel
theorem dX2_withChoice_25 : decode cX2_withChoice 25 = .ok (.checkcast 51, 3) := dk_192 0 51 (dk_at dksX2_withChoice_1 5 rfl rfl)
theorem dX2_withChoice_28 : decode cX2_withChoice 28 = .ok (.astore 4, 2) := dk_58 4 (dk_at dksX2_withChoice_1 8 rfl rfl)
theorem dX2_withChoice_30 : decode cX2_withChoice 30 = .ok (.iload_n 2, 1) := dk_28 (dk_at dksX2_withChoice_1 10 rfl rfl)
theorem dX2_withChoice_31 : decode cX2_withChoice 31 = .ok (.iload_n 1, 1) := dk_27 (dk_at dksX2_withChoice_1 11 rfl rfl)
theorem dX2_withChoice_32 : decode cX2_withChoice 32 = .ok (.ifCond .eq 19, 3) := dk_153 0 19 (dk_at dksX2_withChoice_1 12 rfl rfl)
theorem dX2_withChoice_35 : decode cX2_withChoice 35 = .ok (.aload 4, 2) := dk_25 4 (dk_at dksX2_withChoice_1 15 rfl rfl)
theorem dX2_withChoice_37 : decode cX2_withChoice 37 = .ok (.getfield 107, 3) := dk_180 0 107 (dk_at dksX2_withChoice_1 17 rfl rfl)
theorem dX2_withChoice_40 : decode cX2_withChoice 40 = .ok (.ifCond .eq 7, 3) := dk_153 0 7 (dk_at dksX2_withChoice_1 20 rfl rfl)
theorem dX2_withChoice_43 : decode cX2_withChoice 43 = .ok (.iconst 1, 1) := dk_4 (dk_at dksX2_withChoice_1 23 rfl rfl)
theorem dX2_withChoice_44 : decode cX2_withChoice 44 = .ok (.goto 20, 3) := dk_167 0 20 (dk_at dksX2_withChoice_2 0 rfl rfl)
theorem dX2_withChoice_47 : decode cX2_withChoice 47 = .ok (.iconst 0, 1) := dk_3 (dk_at dksX2_withChoice_2 3 rfl rfl)
theorem dX2_withChoice_48 : decode cX2_withChoice 48 = .ok (.goto 16, 3) := dk_167 0 16 (dk_at dksX2_withChoice_2 4 rfl rfl)
theorem dX2_withChoice_51 : decode cX2_withChoice 51 = .ok (.aload 4, 2) := dk_25 4 (dk_at dksX2_withChoice_2 7 rfl rfl)
theorem dX2_withChoice_53 : decode cX2_withChoice 53 = .ok (.invokevirtual 100, 3) := dk_182 0 100 (dk_at dksX2_withChoice_2 9 rfl rfl)
theorem dX2_withChoice_56 : decode cX2_withChoice 56 = .ok (.ifCond .eq 7, 3) := dk_153 0 7 (dk_at dksX2_withChoice_2 12 rfl rfl)
theorem dX2_withChoice_59 : decode cX2_withChoice 59 = .ok (.iconst 1, 1) := dk_4 (dk_at dksX2_withChoice_2 15 rfl rfl)
theorem dX2_withChoice_60 : decode cX2_withChoice 60 = .ok (.goto 4, 3) := dk_167 0 4 (dk_at dksX2_withChoice_2 16 rfl rfl)
theorem dX2_withChoice_63 : decode cX2_withChoice 63 = .ok (.iconst 0, 1) := dk_3 (dk_at dksX2_withChoice_2 19 rfl rfl)
theorem dX2_withChoice_64 : decode cX2_withChoice 64 = .ok (.iadd, 1) := dk_96 (dk_at dksX2_withChoice_2 20 rfl rfl)
theorem dX2_withChoice_65 : decode cX2_withChoice 65 = .ok (.istore_n 2, 1) := dk_61 (dk_at dksX2_withChoice_2 21 rfl rfl)
theorem dX2_withChoice_66 : decode cX2_withChoice 66 = .ok (.goto (-56), 3) := dk_167 255 200 (dk_at dksX2_withChoice_3 0 rfl rfl)
theorem dX2_withChoice_69 : decode cX2_withChoice 69 = .ok (.iload_n 2, 1) := dk_28 (dk_at dksX2_withChoice_3 3 rfl rfl)
theorem dX2_withChoice_70 : decode cX2_withChoice 70 = .ok (.ireturn, 1) := dk_172 (dk_at dksX2_withChoice_3 4 rfl rfl)
abbrev cX2_shippings : ByteArray := prog_6_method_25_code
def yX2_shippings : MethodName := ⟨RX2, "shippings", "(Z)I"⟩
def dkwX2_shippings_2 : List UInt8 := [25, 4, 180, 0, 183, 4, 184, 0, 234, 96, 61, 167, 255, 212, 28, 172]
abbrev dktX2_shippings_2 : List UInt8 := dkwX2_shippings_2 ++ []
def dkwX2_shippings_1 : List UInt8 := [185, 0, 37, 1, 0, 192, 0, 56, 58, 4, 28, 27, 153, 0, 11, 25, 4, 180, 0, 183, 167, 0, 12]
abbrev dktX2_shippings_1 : List UInt8 := dkwX2_shippings_1 ++ dktX2_shippings_2
def dkwX2_shippings_0 : List UInt8 := [3, 61, 42, 180, 0, 23, 182, 0, 27, 78, 45, 185, 0, 31, 1, 0, 153, 0, 41, 45]
abbrev dktX2_shippings_0 : List UInt8 := dkwX2_shippings_0 ++ dktX2_shippings_1
theorem dksX2_shippings_0 : cX2_shippings.data.toList.drop 0 = dktX2_shippings_0 := by decide +kernel
theorem dksX2_shippings_1 : cX2_shippings.data.toList.drop 20 = dktX2_shippings_1 := dk_seg dksX2_shippings_0 20 rfl rfl
theorem dksX2_shippings_2 : cX2_shippings.data.toList.drop 43 = dktX2_shippings_2 := dk_seg dksX2_shippings_1 23 rfl rfl
theorem dX2_shippings_0 : decode cX2_shippings 0 = .ok (.iconst 0, 1) := dk_3 (dk_at dksX2_shippings_0 0 rfl rfl)
theorem dX2_shippings_1 : decode cX2_shippings 1 = .ok (.istore_n 2, 1) := dk_61 (dk_at dksX2_shippings_0 1 rfl rfl)
theorem dX2_shippings_2 : decode cX2_shippings 2 = .ok (.aload_n 0, 1) := dk_42 (dk_at dksX2_shippings_0 2 rfl rfl)
theorem dX2_shippings_3 : decode cX2_shippings 3 = .ok (.getfield 23, 3) := dk_180 0 23 (dk_at dksX2_shippings_0 3 rfl rfl)
theorem dX2_shippings_6 : decode cX2_shippings 6 = .ok (.invokevirtual 27, 3) := dk_182 0 27 (dk_at dksX2_shippings_0 6 rfl rfl)
theorem dX2_shippings_9 : decode cX2_shippings 9 = .ok (.astore_n 3, 1) := dk_78 (dk_at dksX2_shippings_0 9 rfl rfl)
theorem dX2_shippings_10 : decode cX2_shippings 10 = .ok (.aload_n 3, 1) := dk_45 (dk_at dksX2_shippings_0 10 rfl rfl)
theorem dX2_shippings_11 : decode cX2_shippings 11 = .ok (.invokeinterface 31 1, 5) := by decide +kernel
theorem dX2_shippings_16 : decode cX2_shippings 16 = .ok (.ifCond .eq 41, 3) := dk_153 0 41 (dk_at dksX2_shippings_0 16 rfl rfl)
theorem dX2_shippings_19 : decode cX2_shippings 19 = .ok (.aload_n 3, 1) := dk_45 (dk_at dksX2_shippings_0 19 rfl rfl)
theorem dX2_shippings_20 : decode cX2_shippings 20 = .ok (.invokeinterface 37 1, 5) := by decide +kernel
theorem dX2_shippings_25 : decode cX2_shippings 25 = .ok (.checkcast 56, 3) := dk_192 0 56 (dk_at dksX2_shippings_1 5 rfl rfl)
theorem dX2_shippings_28 : decode cX2_shippings 28 = .ok (.astore 4, 2) := dk_58 4 (dk_at dksX2_shippings_1 8 rfl rfl)
theorem dX2_shippings_30 : decode cX2_shippings 30 = .ok (.iload_n 2, 1) := dk_28 (dk_at dksX2_shippings_1 10 rfl rfl)
theorem dX2_shippings_31 : decode cX2_shippings 31 = .ok (.iload_n 1, 1) := dk_27 (dk_at dksX2_shippings_1 11 rfl rfl)
theorem dX2_shippings_32 : decode cX2_shippings 32 = .ok (.ifCond .eq 11, 3) := dk_153 0 11 (dk_at dksX2_shippings_1 12 rfl rfl)
theorem dX2_shippings_35 : decode cX2_shippings 35 = .ok (.aload 4, 2) := dk_25 4 (dk_at dksX2_shippings_1 15 rfl rfl)
theorem dX2_shippings_37 : decode cX2_shippings 37 = .ok (.getfield 183, 3) := dk_180 0 183 (dk_at dksX2_shippings_1 17 rfl rfl)
theorem dX2_shippings_40 : decode cX2_shippings 40 = .ok (.goto 12, 3) := dk_167 0 12 (dk_at dksX2_shippings_1 20 rfl rfl)
theorem dX2_shippings_43 : decode cX2_shippings 43 = .ok (.aload 4, 2) := dk_25 4 (dk_at dksX2_shippings_2 0 rfl rfl)
theorem dX2_shippings_45 : decode cX2_shippings 45 = .ok (.getfield 183, 3) := dk_180 0 183 (dk_at dksX2_shippings_2 2 rfl rfl)
theorem dX2_shippings_48 : decode cX2_shippings 48 = .ok (.iconst 1, 1) := dk_4 (dk_at dksX2_shippings_2 5 rfl rfl)
theorem dX2_shippings_49 : decode cX2_shippings 49 = .ok (.invokestatic 234, 3) := dk_184 0 234 (dk_at dksX2_shippings_2 6 rfl rfl)
theorem dX2_shippings_52 : decode cX2_shippings 52 = .ok (.iadd, 1) := dk_96 (dk_at dksX2_shippings_2 9 rfl rfl)
theorem dX2_shippings_53 : decode cX2_shippings 53 = .ok (.istore_n 2, 1) := dk_61 (dk_at dksX2_shippings_2 10 rfl rfl)
theorem dX2_shippings_54 : decode cX2_shippings 54 = .ok (.goto (-44), 3) := dk_167 255 212 (dk_at dksX2_shippings_2 11 rfl rfl)
theorem dX2_shippings_57 : decode cX2_shippings 57 = .ok (.iload_n 2, 1) := dk_28 (dk_at dksX2_shippings_2 14 rfl rfl)
theorem dX2_shippings_58 : decode cX2_shippings 58 = .ok (.ireturn, 1) := dk_172 (dk_at dksX2_shippings_2 15 rfl rfl)
abbrev cX2_worksWith : ByteArray := prog_6_method_26_code
def yX2_worksWith : MethodName := ⟨RX2, "worksWith", "(IZ)I"⟩
def dkwX2_worksWith_2 : List UInt8 := [120, 167, 0, 4, 3, 128, 62, 132, 4, 1, 167, 255, 204, 29, 172]
abbrev dktX2_worksWith_2 : List UInt8 := dkwX2_worksWith_2 ++ []
def dkwX2_worksWith_1 : List UInt8 := [21, 4, 182, 0, 86, 167, 0, 9, 42, 21, 4, 182, 0, 89, 27, 184, 0, 61, 153, 0, 10, 4, 21, 4]
abbrev dktX2_worksWith_1 : List UInt8 := dkwX2_worksWith_1 ++ dktX2_worksWith_2
def dkwX2_worksWith_0 : List UInt8 := [3, 62, 3, 54, 4, 21, 4, 42, 180, 0, 23, 182, 0, 73, 162, 0, 46, 29, 28, 153, 0, 12, 42]
abbrev dktX2_worksWith_0 : List UInt8 := dkwX2_worksWith_0 ++ dktX2_worksWith_1
theorem dksX2_worksWith_0 : cX2_worksWith.data.toList.drop 0 = dktX2_worksWith_0 := by decide +kernel
theorem dksX2_worksWith_1 : cX2_worksWith.data.toList.drop 23 = dktX2_worksWith_1 := dk_seg dksX2_worksWith_0 23 rfl rfl
theorem dksX2_worksWith_2 : cX2_worksWith.data.toList.drop 47 = dktX2_worksWith_2 := dk_seg dksX2_worksWith_1 24 rfl rfl
theorem dX2_worksWith_0 : decode cX2_worksWith 0 = .ok (.iconst 0, 1) := dk_3 (dk_at dksX2_worksWith_0 0 rfl rfl)
theorem dX2_worksWith_1 : decode cX2_worksWith 1 = .ok (.istore_n 3, 1) := dk_62 (dk_at dksX2_worksWith_0 1 rfl rfl)
theorem dX2_worksWith_2 : decode cX2_worksWith 2 = .ok (.iconst 0, 1) := dk_3 (dk_at dksX2_worksWith_0 2 rfl rfl)
theorem dX2_worksWith_3 : decode cX2_worksWith 3 = .ok (.istore 4, 2) := dk_54 4 (dk_at dksX2_worksWith_0 3 rfl rfl)
theorem dX2_worksWith_5 : decode cX2_worksWith 5 = .ok (.iload 4, 2) := dk_21 4 (dk_at dksX2_worksWith_0 5 rfl rfl)
theorem dX2_worksWith_7 : decode cX2_worksWith 7 = .ok (.aload_n 0, 1) := dk_42 (dk_at dksX2_worksWith_0 7 rfl rfl)
theorem dX2_worksWith_8 : decode cX2_worksWith 8 = .ok (.getfield 23, 3) := dk_180 0 23 (dk_at dksX2_worksWith_0 8 rfl rfl)
theorem dX2_worksWith_11 : decode cX2_worksWith 11 = .ok (.invokevirtual 73, 3) := dk_182 0 73 (dk_at dksX2_worksWith_0 11 rfl rfl)
theorem dX2_worksWith_14 : decode cX2_worksWith 14 = .ok (.if_icmp .ge 46, 3) := dk_162 0 46 (dk_at dksX2_worksWith_0 14 rfl rfl)
theorem dX2_worksWith_17 : decode cX2_worksWith 17 = .ok (.iload_n 3, 1) := dk_29 (dk_at dksX2_worksWith_0 17 rfl rfl)
theorem dX2_worksWith_18 : decode cX2_worksWith 18 = .ok (.iload_n 2, 1) := dk_28 (dk_at dksX2_worksWith_0 18 rfl rfl)
theorem dX2_worksWith_19 : decode cX2_worksWith 19 = .ok (.ifCond .eq 12, 3) := dk_153 0 12 (dk_at dksX2_worksWith_0 19 rfl rfl)
theorem dX2_worksWith_22 : decode cX2_worksWith 22 = .ok (.aload_n 0, 1) := dk_42 (dk_at dksX2_worksWith_0 22 rfl rfl)
theorem dX2_worksWith_23 : decode cX2_worksWith 23 = .ok (.iload 4, 2) := dk_21 4 (dk_at dksX2_worksWith_1 0 rfl rfl)
theorem dX2_worksWith_25 : decode cX2_worksWith 25 = .ok (.invokevirtual 86, 3) := dk_182 0 86 (dk_at dksX2_worksWith_1 2 rfl rfl)
theorem dX2_worksWith_28 : decode cX2_worksWith 28 = .ok (.goto 9, 3) := dk_167 0 9 (dk_at dksX2_worksWith_1 5 rfl rfl)
theorem dX2_worksWith_31 : decode cX2_worksWith 31 = .ok (.aload_n 0, 1) := dk_42 (dk_at dksX2_worksWith_1 8 rfl rfl)
theorem dX2_worksWith_32 : decode cX2_worksWith 32 = .ok (.iload 4, 2) := dk_21 4 (dk_at dksX2_worksWith_1 9 rfl rfl)
theorem dX2_worksWith_34 : decode cX2_worksWith 34 = .ok (.invokevirtual 89, 3) := dk_182 0 89 (dk_at dksX2_worksWith_1 11 rfl rfl)
theorem dX2_worksWith_37 : decode cX2_worksWith 37 = .ok (.iload_n 1, 1) := dk_27 (dk_at dksX2_worksWith_1 14 rfl rfl)
theorem dX2_worksWith_38 : decode cX2_worksWith 38 = .ok (.invokestatic 61, 3) := dk_184 0 61 (dk_at dksX2_worksWith_1 15 rfl rfl)
theorem dX2_worksWith_41 : decode cX2_worksWith 41 = .ok (.ifCond .eq 10, 3) := dk_153 0 10 (dk_at dksX2_worksWith_1 18 rfl rfl)
theorem dX2_worksWith_44 : decode cX2_worksWith 44 = .ok (.iconst 1, 1) := dk_4 (dk_at dksX2_worksWith_1 21 rfl rfl)
theorem dX2_worksWith_45 : decode cX2_worksWith 45 = .ok (.iload 4, 2) := dk_21 4 (dk_at dksX2_worksWith_1 22 rfl rfl)
theorem dX2_worksWith_47 : decode cX2_worksWith 47 = .ok (.ishl, 1) := dk_120 (dk_at dksX2_worksWith_2 0 rfl rfl)
theorem dX2_worksWith_48 : decode cX2_worksWith 48 = .ok (.goto 4, 3) := dk_167 0 4 (dk_at dksX2_worksWith_2 1 rfl rfl)
theorem dX2_worksWith_51 : decode cX2_worksWith 51 = .ok (.iconst 0, 1) := dk_3 (dk_at dksX2_worksWith_2 4 rfl rfl)
theorem dX2_worksWith_52 : decode cX2_worksWith 52 = .ok (.ior, 1) := dk_128 (dk_at dksX2_worksWith_2 5 rfl rfl)
theorem dX2_worksWith_53 : decode cX2_worksWith 53 = .ok (.istore_n 3, 1) := dk_62 (dk_at dksX2_worksWith_2 6 rfl rfl)
theorem dX2_worksWith_54 : decode cX2_worksWith 54 = .ok (.iinc 4 1, 3) := dk_132 4 1 (dk_at dksX2_worksWith_2 7 rfl rfl)
theorem dX2_worksWith_57 : decode cX2_worksWith 57 = .ok (.goto (-52), 3) := dk_167 255 204 (dk_at dksX2_worksWith_2 10 rfl rfl)
theorem dX2_worksWith_60 : decode cX2_worksWith 60 = .ok (.iload_n 3, 1) := dk_29 (dk_at dksX2_worksWith_2 13 rfl rfl)
theorem dX2_worksWith_61 : decode cX2_worksWith 61 = .ok (.ireturn, 1) := dk_172 (dk_at dksX2_worksWith_2 14 rfl rfl)
abbrev cX2_links : ByteArray := prog_6_method_9_code
def yX2_links : MethodName := ⟨RX2, "links", "(II)I"⟩
def dkwX2_links_3 : List UInt8 := [54, 5, 132, 6, 1, 167, 255, 207, 21, 5, 54, 4, 132, 3, 1, 167, 255, 177, 29, 172]
abbrev dktX2_links_3 : List UInt8 := dkwX2_links_3 ++ []
def dkwX2_links_2 : List UInt8 := [153, 0, 21, 42, 180, 0, 23, 21, 6, 182, 0, 65, 192, 0, 56, 180, 0, 69, 167, 0, 4, 3, 128]
abbrev dktX2_links_2 : List UInt8 := dkwX2_links_2 ++ dktX2_links_3
def dkwX2_links_1 : List UInt8 := [3, 54, 6, 21, 6, 42, 180, 0, 23, 182, 0, 73, 162, 0, 43, 21, 5, 21, 4, 21, 6, 184, 0, 61]
abbrev dktX2_links_1 : List UInt8 := dkwX2_links_1 ++ dktX2_links_2
def dkwX2_links_0 : List UInt8 := [3, 62, 4, 27, 120, 54, 4, 42, 21, 4, 182, 0, 83, 28, 184, 0, 61, 154, 0, 72, 21, 4, 54, 5]
abbrev dktX2_links_0 : List UInt8 := dkwX2_links_0 ++ dktX2_links_1
theorem dksX2_links_0 : cX2_links.data.toList.drop 0 = dktX2_links_0 := by decide +kernel
theorem dksX2_links_1 : cX2_links.data.toList.drop 24 = dktX2_links_1 := dk_seg dksX2_links_0 24 rfl rfl
theorem dksX2_links_2 : cX2_links.data.toList.drop 48 = dktX2_links_2 := dk_seg dksX2_links_1 24 rfl rfl
theorem dksX2_links_3 : cX2_links.data.toList.drop 71 = dktX2_links_3 := dk_seg dksX2_links_2 23 rfl rfl
theorem dX2_links_0 : decode cX2_links 0 = .ok (.iconst 0, 1) := dk_3 (dk_at dksX2_links_0 0 rfl rfl)
theorem dX2_links_1 : decode cX2_links 1 = .ok (.istore_n 3, 1) := dk_62 (dk_at dksX2_links_0 1 rfl rfl)
theorem dX2_links_2 : decode cX2_links 2 = .ok (.iconst 1, 1) := dk_4 (dk_at dksX2_links_0 2 rfl rfl)
theorem dX2_links_3 : decode cX2_links 3 = .ok (.iload_n 1, 1) := dk_27 (dk_at dksX2_links_0 3 rfl rfl)
theorem dX2_links_4 : decode cX2_links 4 = .ok (.ishl, 1) := dk_120 (dk_at dksX2_links_0 4 rfl rfl)
theorem dX2_links_5 : decode cX2_links 5 = .ok (.istore 4, 2) := dk_54 4 (dk_at dksX2_links_0 5 rfl rfl)
theorem dX2_links_7 : decode cX2_links 7 = .ok (.aload_n 0, 1) := dk_42 (dk_at dksX2_links_0 7 rfl rfl)
theorem dX2_links_8 : decode cX2_links 8 = .ok (.iload 4, 2) := dk_21 4 (dk_at dksX2_links_0 8 rfl rfl)
theorem dX2_links_10 : decode cX2_links 10 = .ok (.invokevirtual 83, 3) := dk_182 0 83 (dk_at dksX2_links_0 10 rfl rfl)
theorem dX2_links_13 : decode cX2_links 13 = .ok (.iload_n 2, 1) := dk_28 (dk_at dksX2_links_0 13 rfl rfl)
theorem dX2_links_14 : decode cX2_links 14 = .ok (.invokestatic 61, 3) := dk_184 0 61 (dk_at dksX2_links_0 14 rfl rfl)
theorem dX2_links_17 : decode cX2_links 17 = .ok (.ifCond .ne 72, 3) := dk_154 0 72 (dk_at dksX2_links_0 17 rfl rfl)
theorem dX2_links_20 : decode cX2_links 20 = .ok (.iload 4, 2) := dk_21 4 (dk_at dksX2_links_0 20 rfl rfl)
theorem dX2_links_22 : decode cX2_links 22 = .ok (.istore 5, 2) := dk_54 5 (dk_at dksX2_links_0 22 rfl rfl)
theorem dX2_links_24 : decode cX2_links 24 = .ok (.iconst 0, 1) := dk_3 (dk_at dksX2_links_1 0 rfl rfl)
theorem dX2_links_25 : decode cX2_links 25 = .ok (.istore 6, 2) := dk_54 6 (dk_at dksX2_links_1 1 rfl rfl)
theorem dX2_links_27 : decode cX2_links 27 = .ok (.iload 6, 2) := dk_21 6 (dk_at dksX2_links_1 3 rfl rfl)
theorem dX2_links_29 : decode cX2_links 29 = .ok (.aload_n 0, 1) := dk_42 (dk_at dksX2_links_1 5 rfl rfl)
theorem dX2_links_30 : decode cX2_links 30 = .ok (.getfield 23, 3) := dk_180 0 23 (dk_at dksX2_links_1 6 rfl rfl)
theorem dX2_links_33 : decode cX2_links 33 = .ok (.invokevirtual 73, 3) := dk_182 0 73 (dk_at dksX2_links_1 9 rfl rfl)
theorem dX2_links_36 : decode cX2_links 36 = .ok (.if_icmp .ge 43, 3) := dk_162 0 43 (dk_at dksX2_links_1 12 rfl rfl)
theorem dX2_links_39 : decode cX2_links 39 = .ok (.iload 5, 2) := dk_21 5 (dk_at dksX2_links_1 15 rfl rfl)
theorem dX2_links_41 : decode cX2_links 41 = .ok (.iload 4, 2) := dk_21 4 (dk_at dksX2_links_1 17 rfl rfl)
theorem dX2_links_43 : decode cX2_links 43 = .ok (.iload 6, 2) := dk_21 6 (dk_at dksX2_links_1 19 rfl rfl)
theorem dX2_links_45 : decode cX2_links 45 = .ok (.invokestatic 61, 3) := dk_184 0 61 (dk_at dksX2_links_1 21 rfl rfl)
theorem dX2_links_48 : decode cX2_links 48 = .ok (.ifCond .eq 21, 3) := dk_153 0 21 (dk_at dksX2_links_2 0 rfl rfl)
theorem dX2_links_51 : decode cX2_links 51 = .ok (.aload_n 0, 1) := dk_42 (dk_at dksX2_links_2 3 rfl rfl)
theorem dX2_links_52 : decode cX2_links 52 = .ok (.getfield 23, 3) := dk_180 0 23 (dk_at dksX2_links_2 4 rfl rfl)
theorem dX2_links_55 : decode cX2_links 55 = .ok (.iload 6, 2) := dk_21 6 (dk_at dksX2_links_2 7 rfl rfl)
theorem dX2_links_57 : decode cX2_links 57 = .ok (.invokevirtual 65, 3) := dk_182 0 65 (dk_at dksX2_links_2 9 rfl rfl)
theorem dX2_links_60 : decode cX2_links 60 = .ok (.checkcast 56, 3) := dk_192 0 56 (dk_at dksX2_links_2 12 rfl rfl)
theorem dX2_links_63 : decode cX2_links 63 = .ok (.getfield 69, 3) := dk_180 0 69 (dk_at dksX2_links_2 15 rfl rfl)
theorem dX2_links_66 : decode cX2_links 66 = .ok (.goto 4, 3) := dk_167 0 4 (dk_at dksX2_links_2 18 rfl rfl)
theorem dX2_links_69 : decode cX2_links 69 = .ok (.iconst 0, 1) := dk_3 (dk_at dksX2_links_2 21 rfl rfl)
theorem dX2_links_70 : decode cX2_links 70 = .ok (.ior, 1) := dk_128 (dk_at dksX2_links_2 22 rfl rfl)
theorem dX2_links_71 : decode cX2_links 71 = .ok (.istore 5, 2) := dk_54 5 (dk_at dksX2_links_3 0 rfl rfl)
theorem dX2_links_73 : decode cX2_links 73 = .ok (.iinc 6 1, 3) := dk_132 6 1 (dk_at dksX2_links_3 2 rfl rfl)
theorem dX2_links_76 : decode cX2_links 76 = .ok (.goto (-49), 3) := dk_167 255 207 (dk_at dksX2_links_3 5 rfl rfl)
theorem dX2_links_79 : decode cX2_links 79 = .ok (.iload 5, 2) := dk_21 5 (dk_at dksX2_links_3 8 rfl rfl)
theorem dX2_links_81 : decode cX2_links 81 = .ok (.istore 4, 2) := dk_54 4 (dk_at dksX2_links_3 10 rfl rfl)
theorem dX2_links_83 : decode cX2_links 83 = .ok (.iinc 3 1, 3) := dk_132 3 1 (dk_at dksX2_links_3 12 rfl rfl)
theorem dX2_links_86 : decode cX2_links 86 = .ok (.goto (-79), 3) := dk_167 255 177 (dk_at dksX2_links_3 15 rfl rfl)
theorem dX2_links_89 : decode cX2_links 89 = .ok (.iload_n 3, 1) := dk_29 (dk_at dksX2_links_3 18 rfl rfl)
theorem dX2_links_90 : decode cX2_links 90 = .ok (.ireturn, 1) := dk_172 (dk_at dksX2_links_3 19 rfl rfl)
abbrev cX2_duesOf : ByteArray := prog_6_method_29_code
def yX2_duesOf : MethodName := ⟨RX2, "duesOf", "(I)J"⟩
def dkwX2_duesOf_2 : List UInt8 := [132, 4, 1, 167, 255, 211, 32, 173]
abbrev dktX2_duesOf_2 : List UInt8 := dkwX2_duesOf_2 ++ []
def dkwX2_duesOf_1 : List UInt8 := [9, 167, 0, 20, 42, 27, 21, 4, 182, 0, 117, 182, 0, 250, 133, 16, 10, 21, 4, 104, 121, 129, 65]
abbrev dktX2_duesOf_1 : List UInt8 := dkwX2_duesOf_1 ++ dktX2_duesOf_2
def dkwX2_duesOf_0 : List UInt8 := [9, 65, 3, 54, 4, 21, 4, 8, 162, 0, 45, 32, 21, 4, 5, 159, 0, 9, 21, 4, 6, 160, 0, 7]
abbrev dktX2_duesOf_0 : List UInt8 := dkwX2_duesOf_0 ++ dktX2_duesOf_1
theorem dksX2_duesOf_0 : cX2_duesOf.data.toList.drop 0 = dktX2_duesOf_0 := by decide +kernel
theorem dksX2_duesOf_1 : cX2_duesOf.data.toList.drop 24 = dktX2_duesOf_1 := dk_seg dksX2_duesOf_0 24 rfl rfl
theorem dksX2_duesOf_2 : cX2_duesOf.data.toList.drop 47 = dktX2_duesOf_2 := dk_seg dksX2_duesOf_1 23 rfl rfl
theorem dX2_duesOf_0 : decode cX2_duesOf 0 = .ok (.lconst 0, 1) := dk_9 (dk_at dksX2_duesOf_0 0 rfl rfl)
theorem dX2_duesOf_1 : decode cX2_duesOf 1 = .ok (.lstore_n 2, 1) := dk_65 (dk_at dksX2_duesOf_0 1 rfl rfl)
theorem dX2_duesOf_2 : decode cX2_duesOf 2 = .ok (.iconst 0, 1) := dk_3 (dk_at dksX2_duesOf_0 2 rfl rfl)
theorem dX2_duesOf_3 : decode cX2_duesOf 3 = .ok (.istore 4, 2) := dk_54 4 (dk_at dksX2_duesOf_0 3 rfl rfl)
theorem dX2_duesOf_5 : decode cX2_duesOf 5 = .ok (.iload 4, 2) := dk_21 4 (dk_at dksX2_duesOf_0 5 rfl rfl)
theorem dX2_duesOf_7 : decode cX2_duesOf 7 = .ok (.iconst 5, 1) := dk_8 (dk_at dksX2_duesOf_0 7 rfl rfl)
theorem dX2_duesOf_8 : decode cX2_duesOf 8 = .ok (.if_icmp .ge 45, 3) := dk_162 0 45 (dk_at dksX2_duesOf_0 8 rfl rfl)
theorem dX2_duesOf_11 : decode cX2_duesOf 11 = .ok (.lload_n 2, 1) := dk_32 (dk_at dksX2_duesOf_0 11 rfl rfl)
theorem dX2_duesOf_12 : decode cX2_duesOf 12 = .ok (.iload 4, 2) := dk_21 4 (dk_at dksX2_duesOf_0 12 rfl rfl)
theorem dX2_duesOf_14 : decode cX2_duesOf 14 = .ok (.iconst 2, 1) := dk_5 (dk_at dksX2_duesOf_0 14 rfl rfl)
theorem dX2_duesOf_15 : decode cX2_duesOf 15 = .ok (.if_icmp .eq 9, 3) := dk_159 0 9 (dk_at dksX2_duesOf_0 15 rfl rfl)
theorem dX2_duesOf_18 : decode cX2_duesOf 18 = .ok (.iload 4, 2) := dk_21 4 (dk_at dksX2_duesOf_0 18 rfl rfl)
theorem dX2_duesOf_20 : decode cX2_duesOf 20 = .ok (.iconst 3, 1) := dk_6 (dk_at dksX2_duesOf_0 20 rfl rfl)
theorem dX2_duesOf_21 : decode cX2_duesOf 21 = .ok (.if_icmp .ne 7, 3) := dk_160 0 7 (dk_at dksX2_duesOf_0 21 rfl rfl)
theorem dX2_duesOf_24 : decode cX2_duesOf 24 = .ok (.lconst 0, 1) := dk_9 (dk_at dksX2_duesOf_1 0 rfl rfl)
theorem dX2_duesOf_25 : decode cX2_duesOf 25 = .ok (.goto 20, 3) := dk_167 0 20 (dk_at dksX2_duesOf_1 1 rfl rfl)
theorem dX2_duesOf_28 : decode cX2_duesOf 28 = .ok (.aload_n 0, 1) := dk_42 (dk_at dksX2_duesOf_1 4 rfl rfl)
theorem dX2_duesOf_29 : decode cX2_duesOf 29 = .ok (.iload_n 1, 1) := dk_27 (dk_at dksX2_duesOf_1 5 rfl rfl)
theorem dX2_duesOf_30 : decode cX2_duesOf 30 = .ok (.iload 4, 2) := dk_21 4 (dk_at dksX2_duesOf_1 6 rfl rfl)
theorem dX2_duesOf_32 : decode cX2_duesOf 32 = .ok (.invokevirtual 117, 3) := dk_182 0 117 (dk_at dksX2_duesOf_1 8 rfl rfl)
theorem dX2_duesOf_35 : decode cX2_duesOf 35 = .ok (.invokevirtual 250, 3) := dk_182 0 250 (dk_at dksX2_duesOf_1 11 rfl rfl)
theorem dX2_duesOf_38 : decode cX2_duesOf 38 = .ok (.i2l, 1) := dk_133 (dk_at dksX2_duesOf_1 14 rfl rfl)
theorem dX2_duesOf_39 : decode cX2_duesOf 39 = .ok (.bipush 10, 2) := dk_16 10 (dk_at dksX2_duesOf_1 15 rfl rfl)
theorem dX2_duesOf_41 : decode cX2_duesOf 41 = .ok (.iload 4, 2) := dk_21 4 (dk_at dksX2_duesOf_1 17 rfl rfl)
theorem dX2_duesOf_43 : decode cX2_duesOf 43 = .ok (.imul, 1) := dk_104 (dk_at dksX2_duesOf_1 19 rfl rfl)
theorem dX2_duesOf_44 : decode cX2_duesOf 44 = .ok (.lshl, 1) := dk_121 (dk_at dksX2_duesOf_1 20 rfl rfl)
theorem dX2_duesOf_45 : decode cX2_duesOf 45 = .ok (.lor, 1) := dk_129 (dk_at dksX2_duesOf_1 21 rfl rfl)
theorem dX2_duesOf_46 : decode cX2_duesOf 46 = .ok (.lstore_n 2, 1) := dk_65 (dk_at dksX2_duesOf_1 22 rfl rfl)
theorem dX2_duesOf_47 : decode cX2_duesOf 47 = .ok (.iinc 4 1, 3) := dk_132 4 1 (dk_at dksX2_duesOf_2 0 rfl rfl)
theorem dX2_duesOf_50 : decode cX2_duesOf 50 = .ok (.goto (-45), 3) := dk_167 255 211 (dk_at dksX2_duesOf_2 3 rfl rfl)
theorem dX2_duesOf_53 : decode cX2_duesOf 53 = .ok (.lload_n 2, 1) := dk_32 (dk_at dksX2_duesOf_2 6 rfl rfl)
theorem dX2_duesOf_54 : decode cX2_duesOf 54 = .ok (.lreturn, 1) := dk_173 (dk_at dksX2_duesOf_2 7 rfl rfl)
theorem q70 : (Jvm.Cond.initialized "TermsDesk$Desk") ∈ lw_all := lw_g (lw_at lw_m1 2 rfl) rfl
theorem q125 : (Jvm.Cond.instantiable "TermsDesk$Desk" (3 : Nat)) ∈ lw_all := lw_g (lw_at lw_m1 57 rfl) rfl
theorem q127 : (Jvm.Cond.instanceMethod ({ cls := "TermsDesk$Desk", name := "<init>", desc := "()V" } : Jvm.MethodName)) ∈ lw_all := lw_g (lw_at lw_m1 59 rfl) rfl
theorem q128 : (Jvm.Cond.code ({ cls := "TermsDesk$Desk", name := "<init>", desc := "()V" } : Jvm.MethodName) prog_6_method_1_code (1 : Nat) (Option.none : Option Jvm.ClassFile.FieldType)) ∈ lw_all := lw_g (lw_at lw_m1 60 rfl) rfl
theorem q129 : (Jvm.Cond.methodLink "TermsDesk$Desk" (3 : Nat) ({ cls := "java/lang/Object", name := "<init>", desc := "()V" } : Jvm.MethodName)) ∈ lw_all := lw_g (lw_at lw_m1 61 rfl) rfl
theorem q130 : (Jvm.Cond.classLink "TermsDesk$Desk" (9 : Nat) "TermsDesk$Shelf") ∈ lw_all := lw_g (lw_at lw_m1 62 rfl) rfl
theorem q132 : (Jvm.Cond.methodLink "TermsDesk$Desk" (11 : Nat) ({ cls := "TermsDesk$Shelf", name := "<init>", desc := "(I)V" } : Jvm.MethodName)) ∈ lw_all := lw_g (lw_at lw_m1 64 rfl) rfl
theorem q172 : (Jvm.Cond.fieldLink "TermsDesk$Desk" (14 : Nat) "TermsDesk$Desk" "licences" "LTermsDesk$Shelf;") ∈ lw_all := lw_g (lw_at lw_m1 104 rfl) rfl
theorem q175 : (Jvm.Cond.fieldLink "TermsDesk$Desk" (20 : Nat) "TermsDesk$Desk" "files" "LTermsDesk$Shelf;") ∈ lw_all := lw_g (lw_at lw_m1 107 rfl) rfl
theorem q178 : (Jvm.Cond.fieldLink "TermsDesk$Desk" (23 : Nat) "TermsDesk$Desk" "works" "LTermsDesk$Shelf;") ∈ lw_all := lw_g (lw_at lw_m1 110 rfl) rfl
theorem q181 : (Jvm.Cond.lays "TermsDesk$Desk" "TermsDesk$Desk" "licences" "LTermsDesk$Shelf;") ∈ lw_all := lw_g (lw_at lw_m1 113 rfl) rfl
theorem q182 : (Jvm.Cond.soleField "TermsDesk$Desk" "licences") ∈ lw_all := lw_g (lw_at lw_m1 114 rfl) rfl
theorem q183 : (Jvm.Cond.lays "TermsDesk$Desk" "TermsDesk$Desk" "files" "LTermsDesk$Shelf;") ∈ lw_all := lw_g (lw_at lw_m1 115 rfl) rfl
theorem q184 : (Jvm.Cond.soleField "TermsDesk$Desk" "files") ∈ lw_all := lw_g (lw_at lw_m1 116 rfl) rfl
theorem q185 : (Jvm.Cond.lays "TermsDesk$Desk" "TermsDesk$Desk" "works" "LTermsDesk$Shelf;") ∈ lw_all := lw_g (lw_at lw_m1 117 rfl) rfl
theorem q186 : (Jvm.Cond.soleField "TermsDesk$Desk" "works") ∈ lw_all := lw_g (lw_at lw_m1 118 rfl) rfl
theorem q187 : (Jvm.Cond.superclass "TermsDesk$Desk" "java/lang/Object") ∈ lw_all := lw_g (lw_at lw_m1 119 rfl) rfl
theorem q290 : (Jvm.Cond.instanceMethod ({ cls := "TermsDesk$Desk", name := "isConsistent", desc := "()Z" } : Jvm.MethodName)) ∈ lw_all := lw_g (lw_at lw_m1 222 rfl) rfl
theorem q291 : (Jvm.Cond.selects "TermsDesk$Desk" ({ cls := "TermsDesk$Desk", name := "isConsistent", desc := "()Z" } : Jvm.MethodName) ({ cls := "TermsDesk$Desk", name := "isConsistent", desc := "()Z" } : Jvm.MethodName)) ∈ lw_all := lw_g (lw_at lw_m1 223 rfl) rfl
theorem q292 : (Jvm.Cond.code ({ cls := "TermsDesk$Desk", name := "isConsistent", desc := "()Z" } : Jvm.MethodName) prog_6_method_28_code (4 : Nat) (Option.some Jvm.ClassFile.FieldType.boolean)) ∈ lw_all := lw_g (lw_at lw_m1 224 rfl) rfl
theorem q293 : (Jvm.Cond.methodLink "TermsDesk$Desk" (73 : Nat) ({ cls := "TermsDesk$Shelf", name := "size", desc := "()I" } : Jvm.MethodName)) ∈ lw_all := lw_g (lw_at lw_m1 225 rfl) rfl
theorem q294 : (Jvm.Cond.methodLink "TermsDesk$Desk" (117 : Nat) ({ cls := "TermsDesk$Desk", name := "deed", desc := "(II)LTermsDesk$Deed;" } : Jvm.MethodName)) ∈ lw_all := lw_g (lw_at lw_m1 226 rfl) rfl
theorem q295 : (Jvm.Cond.instanceMethod ({ cls := "TermsDesk$Desk", name := "deed", desc := "(II)LTermsDesk$Deed;" } : Jvm.MethodName)) ∈ lw_all := lw_g (lw_at lw_m1 227 rfl) rfl
theorem q296 : (Jvm.Cond.selects "TermsDesk$Desk" ({ cls := "TermsDesk$Desk", name := "deed", desc := "(II)LTermsDesk$Deed;" } : Jvm.MethodName) ({ cls := "TermsDesk$Desk", name := "deed", desc := "(II)LTermsDesk$Deed;" } : Jvm.MethodName)) ∈ lw_all := lw_g (lw_at lw_m1 228 rfl) rfl
theorem q297 : (Jvm.Cond.code ({ cls := "TermsDesk$Desk", name := "deed", desc := "(II)LTermsDesk$Deed;" } : Jvm.MethodName) prog_6_method_8_code (3 : Nat) (Option.some (Jvm.ClassFile.FieldType.object "TermsDesk$Deed"))) ∈ lw_all := lw_g (lw_at lw_m1 229 rfl) rfl
theorem q298 : (Jvm.Cond.classLink "TermsDesk$Desk" (92 : Nat) "TermsDesk$Deed") ∈ lw_all := lw_g (lw_at lw_m1 230 rfl) rfl
theorem q300 : (Jvm.Cond.methodLink "TermsDesk$Desk" (89 : Nat) ({ cls := "TermsDesk$Desk", name := "near", desc := "(I)I" } : Jvm.MethodName)) ∈ lw_all := lw_g (lw_at lw_m1 232 rfl) rfl
theorem q301 : (Jvm.Cond.instanceMethod ({ cls := "TermsDesk$Desk", name := "near", desc := "(I)I" } : Jvm.MethodName)) ∈ lw_all := lw_g (lw_at lw_m1 233 rfl) rfl
theorem q302 : (Jvm.Cond.selects "TermsDesk$Desk" ({ cls := "TermsDesk$Desk", name := "near", desc := "(I)I" } : Jvm.MethodName) ({ cls := "TermsDesk$Desk", name := "near", desc := "(I)I" } : Jvm.MethodName)) ∈ lw_all := lw_g (lw_at lw_m1 234 rfl) rfl
theorem q303 : (Jvm.Cond.code ({ cls := "TermsDesk$Desk", name := "near", desc := "(I)I" } : Jvm.MethodName) prog_6_method_5_code (2 : Nat) (Option.some Jvm.ClassFile.FieldType.int)) ∈ lw_all := lw_g (lw_at lw_m1 235 rfl) rfl
theorem q304 : (Jvm.Cond.methodLink "TermsDesk$Desk" (65 : Nat) ({ cls := "TermsDesk$Shelf", name := "get", desc := "(I)Ljava/lang/Object;" } : Jvm.MethodName)) ∈ lw_all := lw_g (lw_at lw_m1 236 rfl) rfl
theorem q398 : (Jvm.Cond.classLink "TermsDesk$Desk" (56 : Nat) "TermsDesk$Work") ∈ lw_all := lw_g (lw_at lw_m2 90 rfl) rfl
theorem q399 : (Jvm.Cond.methodLink "TermsDesk$Desk" (94 : Nat) ({ cls := "TermsDesk$Desk", name := "far", desc := "(I)I" } : Jvm.MethodName)) ∈ lw_all := lw_g (lw_at lw_m2 91 rfl) rfl
theorem q400 : (Jvm.Cond.instanceMethod ({ cls := "TermsDesk$Desk", name := "far", desc := "(I)I" } : Jvm.MethodName)) ∈ lw_all := lw_g (lw_at lw_m2 92 rfl) rfl
theorem q401 : (Jvm.Cond.selects "TermsDesk$Desk" ({ cls := "TermsDesk$Desk", name := "far", desc := "(I)I" } : Jvm.MethodName) ({ cls := "TermsDesk$Desk", name := "far", desc := "(I)I" } : Jvm.MethodName)) ∈ lw_all := lw_g (lw_at lw_m2 93 rfl) rfl
theorem q402 : (Jvm.Cond.code ({ cls := "TermsDesk$Desk", name := "far", desc := "(I)I" } : Jvm.MethodName) prog_6_method_7_code (2 : Nat) (Option.some Jvm.ClassFile.FieldType.int)) ∈ lw_all := lw_g (lw_at lw_m2 94 rfl) rfl
theorem q403 : (Jvm.Cond.methodLink "TermsDesk$Desk" (86 : Nat) ({ cls := "TermsDesk$Desk", name := "reached", desc := "(I)I" } : Jvm.MethodName)) ∈ lw_all := lw_g (lw_at lw_m2 95 rfl) rfl
theorem q404 : (Jvm.Cond.instanceMethod ({ cls := "TermsDesk$Desk", name := "reached", desc := "(I)I" } : Jvm.MethodName)) ∈ lw_all := lw_g (lw_at lw_m2 96 rfl) rfl
theorem q405 : (Jvm.Cond.selects "TermsDesk$Desk" ({ cls := "TermsDesk$Desk", name := "reached", desc := "(I)I" } : Jvm.MethodName) ({ cls := "TermsDesk$Desk", name := "reached", desc := "(I)I" } : Jvm.MethodName)) ∈ lw_all := lw_g (lw_at lw_m2 97 rfl) rfl
theorem q406 : (Jvm.Cond.code ({ cls := "TermsDesk$Desk", name := "reached", desc := "(I)I" } : Jvm.MethodName) prog_6_method_6_code (2 : Nat) (Option.some Jvm.ClassFile.FieldType.int)) ∈ lw_all := lw_g (lw_at lw_m2 98 rfl) rfl
theorem q407 : (Jvm.Cond.methodLink "TermsDesk$Desk" (79 : Nat) ({ cls := "TermsDesk$Desk", name := "reach", desc := "(I)I" } : Jvm.MethodName)) ∈ lw_all := lw_g (lw_at lw_m2 99 rfl) rfl
theorem q408 : (Jvm.Cond.instanceMethod ({ cls := "TermsDesk$Desk", name := "reach", desc := "(I)I" } : Jvm.MethodName)) ∈ lw_all := lw_g (lw_at lw_m2 100 rfl) rfl
theorem q409 : (Jvm.Cond.selects "TermsDesk$Desk" ({ cls := "TermsDesk$Desk", name := "reach", desc := "(I)I" } : Jvm.MethodName) ({ cls := "TermsDesk$Desk", name := "reach", desc := "(I)I" } : Jvm.MethodName)) ∈ lw_all := lw_g (lw_at lw_m2 101 rfl) rfl
theorem q410 : (Jvm.Cond.code ({ cls := "TermsDesk$Desk", name := "reach", desc := "(I)I" } : Jvm.MethodName) prog_6_method_3_code (4 : Nat) (Option.some Jvm.ClassFile.FieldType.int)) ∈ lw_all := lw_g (lw_at lw_m2 102 rfl) rfl
theorem q411 : (Jvm.Cond.methodLinkNest "TermsDesk$Desk" (61 : Nat) ({ cls := "TermsDesk", name := "has", desc := "(II)Z" } : Jvm.MethodName) "TermsDesk") ∈ lw_tbl := lw_at lw_m2 103 rfl
theorem q414 : (Jvm.Cond.methodLink "TermsDesk$Desk" (83 : Nat) ({ cls := "TermsDesk$Desk", name := "joined", desc := "(I)I" } : Jvm.MethodName)) ∈ lw_all := lw_g (lw_at lw_m2 106 rfl) rfl
theorem q415 : (Jvm.Cond.instanceMethod ({ cls := "TermsDesk$Desk", name := "joined", desc := "(I)I" } : Jvm.MethodName)) ∈ lw_all := lw_g (lw_at lw_m2 107 rfl) rfl
theorem q416 : (Jvm.Cond.selects "TermsDesk$Desk" ({ cls := "TermsDesk$Desk", name := "joined", desc := "(I)I" } : Jvm.MethodName) ({ cls := "TermsDesk$Desk", name := "joined", desc := "(I)I" } : Jvm.MethodName)) ∈ lw_all := lw_g (lw_at lw_m2 108 rfl) rfl
theorem q417 : (Jvm.Cond.code ({ cls := "TermsDesk$Desk", name := "joined", desc := "(I)I" } : Jvm.MethodName) prog_6_method_4_code (4 : Nat) (Option.some Jvm.ClassFile.FieldType.int)) ∈ lw_all := lw_g (lw_at lw_m2 109 rfl) rfl
theorem q418 : (Jvm.Cond.methodLink "TermsDesk$Desk" (97 : Nat) ({ cls := "TermsDesk$Deed", name := "<init>", desc := "(LTermsDesk$Desk;III)V" } : Jvm.MethodName)) ∈ lw_all := lw_g (lw_at lw_m2 110 rfl) rfl
theorem q459 : (Jvm.Cond.methodLink "TermsDesk$Desk" (121 : Nat) ({ cls := "TermsDesk$Deed", name := "least", desc := "()I" } : Jvm.MethodName)) ∈ lw_all := lw_g (lw_at lw_m2 151 rfl) rfl
theorem q565 : (Jvm.Cond.methodLink "TermsDesk$Desk" (243 : Nat) ({ cls := "TermsDesk$Deed", name := "without", desc := "(I)LTermsDesk$Deed;" } : Jvm.MethodName)) ∈ lw_all := lw_g (lw_at lw_m3 17 rfl) rfl
theorem q566 : (Jvm.Cond.methodLink "TermsDesk$Desk" (247 : Nat) ({ cls := "TermsDesk$Deed", name := "isClear", desc := "()Z" } : Jvm.MethodName)) ∈ lw_all := lw_g (lw_at lw_m3 18 rfl) rfl
theorem q567 : (Jvm.Cond.methodLink "TermsDesk$Desk" (240 : Nat) ({ cls := "TermsDesk$Desk", name := "reachedAgain", desc := "(I)I" } : Jvm.MethodName)) ∈ lw_all := lw_g (lw_at lw_m3 19 rfl) rfl
theorem q568 : (Jvm.Cond.privateMethod ({ cls := "TermsDesk$Desk", name := "reachedAgain", desc := "(I)I" } : Jvm.MethodName)) ∈ lw_tbl := lw_at lw_m3 20 rfl
theorem q569 : (Jvm.Cond.instanceMethod ({ cls := "TermsDesk$Desk", name := "reachedAgain", desc := "(I)I" } : Jvm.MethodName)) ∈ lw_all := lw_g (lw_at lw_m3 21 rfl) rfl
theorem q570 : (Jvm.Cond.code ({ cls := "TermsDesk$Desk", name := "reachedAgain", desc := "(I)I" } : Jvm.MethodName) prog_6_method_27_code (4 : Nat) (Option.some Jvm.ClassFile.FieldType.int)) ∈ lw_all := lw_g (lw_at lw_m3 22 rfl) rfl
theorem q576 : (Jvm.Cond.instanceMethod ({ cls := "TermsDesk$Desk", name := "copy", desc := "()LTermsDesk$Desk;" } : Jvm.MethodName)) ∈ lw_all := lw_g (lw_at lw_m3 28 rfl) rfl
theorem q577 : (Jvm.Cond.selects "TermsDesk$Desk" ({ cls := "TermsDesk$Desk", name := "copy", desc := "()LTermsDesk$Desk;" } : Jvm.MethodName) ({ cls := "TermsDesk$Desk", name := "copy", desc := "()LTermsDesk$Desk;" } : Jvm.MethodName)) ∈ lw_all := lw_g (lw_at lw_m3 29 rfl) rfl
theorem q578 : (Jvm.Cond.code ({ cls := "TermsDesk$Desk", name := "copy", desc := "()LTermsDesk$Desk;" } : Jvm.MethodName) prog_6_method_2_code (5 : Nat) (Option.some (Jvm.ClassFile.FieldType.object "TermsDesk$Desk"))) ∈ lw_all := lw_g (lw_at lw_m3 30 rfl) rfl
theorem q579 : (Jvm.Cond.classLink "TermsDesk$Desk" (15 : Nat) "TermsDesk$Desk") ∈ lw_all := lw_g (lw_at lw_m3 31 rfl) rfl
theorem q580 : (Jvm.Cond.methodLink "TermsDesk$Desk" (26 : Nat) ({ cls := "TermsDesk$Desk", name := "<init>", desc := "()V" } : Jvm.MethodName)) ∈ lw_all := lw_g (lw_at lw_m3 32 rfl) rfl
theorem q581 : (Jvm.Cond.methodLink "TermsDesk$Desk" (27 : Nat) ({ cls := "TermsDesk$Shelf", name := "iterator", desc := "()Ljava/util/Iterator;" } : Jvm.MethodName)) ∈ lw_all := lw_g (lw_at lw_m3 33 rfl) rfl
theorem q608 : (Jvm.Cond.interfaceEntry "TermsDesk$Desk" (31 : Nat)) ∈ lw_tbl := lw_at lw_m3 60 rfl
theorem q609 : (Jvm.Cond.methodLink "TermsDesk$Desk" (31 : Nat) ({ cls := "java/util/Iterator", name := "hasNext", desc := "()Z" } : Jvm.MethodName)) ∈ lw_all := lw_g (lw_at lw_m3 61 rfl) rfl
theorem q618 : (Jvm.Cond.interfaceEntry "TermsDesk$Desk" (37 : Nat)) ∈ lw_tbl := lw_at lw_m3 70 rfl
theorem q619 : (Jvm.Cond.methodLink "TermsDesk$Desk" (37 : Nat) ({ cls := "java/util/Iterator", name := "next", desc := "()Ljava/lang/Object;" } : Jvm.MethodName)) ∈ lw_all := lw_g (lw_at lw_m3 71 rfl) rfl
theorem q646 : (Jvm.Cond.classLink "TermsDesk$Desk" (41 : Nat) "TermsDesk$Licence") ∈ lw_all := lw_g (lw_at lw_m3 98 rfl) rfl
theorem q647 : (Jvm.Cond.methodLink "TermsDesk$Desk" (43 : Nat) ({ cls := "TermsDesk$Licence", name := "copy", desc := "()LTermsDesk$Licence;" } : Jvm.MethodName)) ∈ lw_all := lw_g (lw_at lw_m3 99 rfl) rfl
theorem q678 : (Jvm.Cond.methodLink "TermsDesk$Desk" (47 : Nat) ({ cls := "TermsDesk$Shelf", name := "add", desc := "(Ljava/lang/Object;)I" } : Jvm.MethodName)) ∈ lw_all := lw_g (lw_at lw_m3 130 rfl) rfl
theorem q737 : (Jvm.Cond.selects "TermsDesk$Desk" ({ cls := "java/lang/Object", name := "getClass", desc := "()Ljava/lang/Class;" } : Jvm.MethodName) ({ cls := "java/lang/Object", name := "getClass", desc := "()Ljava/lang/Class;" } : Jvm.MethodName)) ∈ lw_all := lw_g (lw_at lw_m3 189 rfl) rfl
theorem q775 : (Jvm.Cond.classLink "TermsDesk$Desk" (51 : Nat) "TermsDesk$Source") ∈ lw_all := lw_g (lw_at lw_m3 227 rfl) rfl
theorem q776 : (Jvm.Cond.methodLink "TermsDesk$Desk" (53 : Nat) ({ cls := "TermsDesk$Source", name := "copy", desc := "()LTermsDesk$Source;" } : Jvm.MethodName)) ∈ lw_all := lw_g (lw_at lw_m3 228 rfl) rfl
theorem q791 : (Jvm.Cond.fieldLinkNest "TermsDesk$Desk" (232 : Nat) "TermsDesk$Source" "size" "I" "TermsDesk") ∈ lw_tbl := lw_at lw_m4 3 rfl
theorem q794 : (Jvm.Cond.fieldLinkNest "TermsDesk$Desk" (107 : Nat) "TermsDesk$Source" "takesSecond" "Z" "TermsDesk") ∈ lw_tbl := lw_at lw_m4 6 rfl
theorem q804 : (Jvm.Cond.methodLink "TermsDesk$Desk" (58 : Nat) ({ cls := "TermsDesk$Work", name := "copy", desc := "()LTermsDesk$Work;" } : Jvm.MethodName)) ∈ lw_all := lw_g (lw_at lw_m4 16 rfl) rfl
theorem q816 : (Jvm.Cond.fieldLinkNest "TermsDesk$Desk" (77 : Nat) "TermsDesk$Work" "files" "I" "TermsDesk") ∈ lw_tbl := lw_at lw_m4 28 rfl
theorem q819 : (Jvm.Cond.fieldLinkNest "TermsDesk$Desk" (69 : Nat) "TermsDesk$Work" "links" "I" "TermsDesk") ∈ lw_tbl := lw_at lw_m4 31 rfl
theorem q822 : (Jvm.Cond.fieldLinkNest "TermsDesk$Desk" (183 : Nat) "TermsDesk$Work" "shipped" "I" "TermsDesk") ∈ lw_tbl := lw_at lw_m4 34 rfl
theorem q825 : (Jvm.Cond.fieldLinkNest "TermsDesk$Desk" (180 : Nat) "TermsDesk$Work" "notice" "Ljava/lang/String;" "TermsDesk") ∈ lw_tbl := lw_at lw_m4 37 rfl
theorem q999 : (Jvm.Cond.instanceMethod ({ cls := "TermsDesk$Desk", name := "flip", desc := "(I)I" } : Jvm.MethodName)) ∈ lw_all := lw_g (lw_at lw_m4 211 rfl) rfl
theorem q1000 : (Jvm.Cond.selects "TermsDesk$Desk" ({ cls := "TermsDesk$Desk", name := "flip", desc := "(I)I" } : Jvm.MethodName) ({ cls := "TermsDesk$Desk", name := "flip", desc := "(I)I" } : Jvm.MethodName)) ∈ lw_all := lw_g (lw_at lw_m4 212 rfl) rfl
theorem q1001 : (Jvm.Cond.code ({ cls := "TermsDesk$Desk", name := "flip", desc := "(I)I" } : Jvm.MethodName) prog_6_method_10_code (3 : Nat) (Option.some Jvm.ClassFile.FieldType.int)) ∈ lw_all := lw_g (lw_at lw_m4 213 rfl) rfl
theorem q1002 : (Jvm.Cond.methodLink "TermsDesk$Desk" (100 : Nat) ({ cls := "TermsDesk$Source", name := "hasChoice", desc := "()Z" } : Jvm.MethodName)) ∈ lw_all := lw_g (lw_at lw_m4 214 rfl) rfl
theorem q1006 : (Jvm.Cond.methodLinkNest "TermsDesk$Desk" (103 : Nat) ({ cls := "TermsDesk", name := "checkState", desc := "(Z)V" } : Jvm.MethodName) "TermsDesk") ∈ lw_tbl := lw_at lw_m4 218 rfl
theorem q1007 : (Jvm.Cond.methodLink "TermsDesk$Desk" (111 : Nat) ({ cls := "TermsDesk$Source", name := "licence", desc := "()I" } : Jvm.MethodName)) ∈ lw_all := lw_g (lw_at lw_m4 219 rfl) rfl
theorem q1029 : (Jvm.Cond.instanceMethod ({ cls := "TermsDesk$Desk", name := "join", desc := "(IIZ)Z" } : Jvm.MethodName)) ∈ lw_all := lw_g (lw_at lw_m5 1 rfl) rfl
theorem q1030 : (Jvm.Cond.selects "TermsDesk$Desk" ({ cls := "TermsDesk$Desk", name := "join", desc := "(IIZ)Z" } : Jvm.MethodName) ({ cls := "TermsDesk$Desk", name := "join", desc := "(IIZ)Z" } : Jvm.MethodName)) ∈ lw_all := lw_g (lw_at lw_m5 2 rfl) rfl
theorem q1031 : (Jvm.Cond.code ({ cls := "TermsDesk$Desk", name := "join", desc := "(IIZ)Z" } : Jvm.MethodName) prog_6_method_11_code (7 : Nat) (Option.some Jvm.ClassFile.FieldType.boolean)) ∈ lw_all := lw_g (lw_at lw_m5 3 rfl) rfl
theorem q1040 : (Jvm.Cond.instanceMethod ({ cls := "TermsDesk$Desk", name := "link", desc := "(IIZ)Z" } : Jvm.MethodName)) ∈ lw_all := lw_g (lw_at lw_m5 12 rfl) rfl
theorem q1041 : (Jvm.Cond.selects "TermsDesk$Desk" ({ cls := "TermsDesk$Desk", name := "link", desc := "(IIZ)Z" } : Jvm.MethodName) ({ cls := "TermsDesk$Desk", name := "link", desc := "(IIZ)Z" } : Jvm.MethodName)) ∈ lw_all := lw_g (lw_at lw_m5 13 rfl) rfl
theorem q1042 : (Jvm.Cond.code ({ cls := "TermsDesk$Desk", name := "link", desc := "(IIZ)Z" } : Jvm.MethodName) prog_6_method_12_code (7 : Nat) (Option.some Jvm.ClassFile.FieldType.boolean)) ∈ lw_all := lw_g (lw_at lw_m5 14 rfl) rfl
theorem q1043 : (Jvm.Cond.methodLinkNest "TermsDesk$Desk" (114 : Nat) ({ cls := "TermsDesk", name := "checkArgument", desc := "(Z)V" } : Jvm.MethodName) "TermsDesk") ∈ lw_tbl := lw_at lw_m5 15 rfl
theorem q1117 : (Jvm.Cond.instanceMethod ({ cls := "TermsDesk$Desk", name := "remove", desc := "(II)I" } : Jvm.MethodName)) ∈ lw_all := lw_g (lw_at lw_m5 89 rfl) rfl
theorem q1118 : (Jvm.Cond.selects "TermsDesk$Desk" ({ cls := "TermsDesk$Desk", name := "remove", desc := "(II)I" } : Jvm.MethodName) ({ cls := "TermsDesk$Desk", name := "remove", desc := "(II)I" } : Jvm.MethodName)) ∈ lw_all := lw_g (lw_at lw_m5 90 rfl) rfl
theorem q1119 : (Jvm.Cond.code ({ cls := "TermsDesk$Desk", name := "remove", desc := "(II)I" } : Jvm.MethodName) prog_6_method_13_code (6 : Nat) (Option.some Jvm.ClassFile.FieldType.int)) ∈ lw_all := lw_g (lw_at lw_m5 91 rfl) rfl
theorem q1120 : (Jvm.Cond.methodLink "TermsDesk$Desk" (124 : Nat) ({ cls := "java/lang/Integer", name := "bitCount", desc := "(I)I" } : Jvm.MethodName)) ∈ lw_all := lw_g (lw_at lw_m5 92 rfl) rfl
theorem q1129 : (Jvm.Cond.instanceMethod ({ cls := "TermsDesk$Desk", name := "choice", desc := "(II)LTermsDesk$Choice;" } : Jvm.MethodName)) ∈ lw_all := lw_g (lw_at lw_m5 101 rfl) rfl
theorem q1130 : (Jvm.Cond.selects "TermsDesk$Desk" ({ cls := "TermsDesk$Desk", name := "choice", desc := "(II)LTermsDesk$Choice;" } : Jvm.MethodName) ({ cls := "TermsDesk$Desk", name := "choice", desc := "(II)LTermsDesk$Choice;" } : Jvm.MethodName)) ∈ lw_all := lw_g (lw_at lw_m5 102 rfl) rfl
theorem q1131 : (Jvm.Cond.code ({ cls := "TermsDesk$Desk", name := "choice", desc := "(II)LTermsDesk$Choice;" } : Jvm.MethodName) prog_6_method_16_code (7 : Nat) (Option.some (Jvm.ClassFile.FieldType.object "TermsDesk$Choice"))) ∈ lw_all := lw_g (lw_at lw_m5 103 rfl) rfl
theorem q1132 : (Jvm.Cond.methodLink "TermsDesk$Desk" (129 : Nat) ({ cls := "TermsDesk$Desk", name := "copy", desc := "()LTermsDesk$Desk;" } : Jvm.MethodName)) ∈ lw_all := lw_g (lw_at lw_m5 104 rfl) rfl
theorem q1133 : (Jvm.Cond.classLink "TermsDesk$Desk" (132 : Nat) "TermsDesk$Best") ∈ lw_all := lw_g (lw_at lw_m5 105 rfl) rfl
theorem q1135 : (Jvm.Cond.methodLinkNest "TermsDesk$Desk" (134 : Nat) ({ cls := "TermsDesk$Best", name := "<init>", desc := "()V" } : Jvm.MethodName) "TermsDesk") ∈ lw_tbl := lw_at lw_m5 107 rfl
theorem q1143 : (Jvm.Cond.methodLink "TermsDesk$Desk" (135 : Nat) ({ cls := "TermsDesk$Desk", name := "choices", desc := "(I)I" } : Jvm.MethodName)) ∈ lw_all := lw_g (lw_at lw_m5 115 rfl) rfl
theorem q1144 : (Jvm.Cond.privateMethod ({ cls := "TermsDesk$Desk", name := "choices", desc := "(I)I" } : Jvm.MethodName)) ∈ lw_tbl := lw_at lw_m5 116 rfl
theorem q1145 : (Jvm.Cond.instanceMethod ({ cls := "TermsDesk$Desk", name := "choices", desc := "(I)I" } : Jvm.MethodName)) ∈ lw_all := lw_g (lw_at lw_m5 117 rfl) rfl
theorem q1146 : (Jvm.Cond.code ({ cls := "TermsDesk$Desk", name := "choices", desc := "(I)I" } : Jvm.MethodName) prog_6_method_14_code (4 : Nat) (Option.some Jvm.ClassFile.FieldType.int)) ∈ lw_all := lw_g (lw_at lw_m5 118 rfl) rfl
theorem q1147 : (Jvm.Cond.methodLink "TermsDesk$Desk" (138 : Nat) ({ cls := "TermsDesk$Desk", name := "take", desc := "(II)V" } : Jvm.MethodName)) ∈ lw_all := lw_g (lw_at lw_m5 119 rfl) rfl
theorem q1148 : (Jvm.Cond.privateMethod ({ cls := "TermsDesk$Desk", name := "take", desc := "(II)V" } : Jvm.MethodName)) ∈ lw_tbl := lw_at lw_m5 120 rfl
theorem q1149 : (Jvm.Cond.instanceMethod ({ cls := "TermsDesk$Desk", name := "take", desc := "(II)V" } : Jvm.MethodName)) ∈ lw_all := lw_g (lw_at lw_m5 121 rfl) rfl
theorem q1150 : (Jvm.Cond.code ({ cls := "TermsDesk$Desk", name := "take", desc := "(II)V" } : Jvm.MethodName) prog_6_method_15_code (4 : Nat) (Option.none : Option Jvm.ClassFile.FieldType)) ∈ lw_all := lw_g (lw_at lw_m5 122 rfl) rfl
theorem q1151 : (Jvm.Cond.classLink "TermsDesk$Desk" (142 : Nat) "TermsDesk$Choice") ∈ lw_all := lw_g (lw_at lw_m5 123 rfl) rfl
theorem q1153 : (Jvm.Cond.methodLink "TermsDesk$Desk" (144 : Nat) ({ cls := "TermsDesk$Deed", name := "clashes", desc := "()I" } : Jvm.MethodName)) ∈ lw_all := lw_g (lw_at lw_m5 125 rfl) rfl
theorem q1154 : (Jvm.Cond.methodLink "TermsDesk$Desk" (147 : Nat) ({ cls := "TermsDesk$Choice", name := "<init>", desc := "(II)V" } : Jvm.MethodName)) ∈ lw_all := lw_g (lw_at lw_m5 126 rfl) rfl
theorem q1159 : (Jvm.Cond.fieldLinkNest "TermsDesk$Desk" (160 : Nat) "TermsDesk$Choice" "set" "I" "TermsDesk") ∈ lw_tbl := lw_at lw_m5 131 rfl
theorem q1162 : (Jvm.Cond.fieldLinkNest "TermsDesk$Desk" (163 : Nat) "TermsDesk$Choice" "clashes" "I" "TermsDesk") ∈ lw_tbl := lw_at lw_m5 134 rfl
theorem q1168 : (Jvm.Cond.methodLink "TermsDesk$Desk" (149 : Nat) ({ cls := "TermsDesk$Best", name := "offer", desc := "(Ljava/lang/Comparable;)V" } : Jvm.MethodName)) ∈ lw_all := lw_g (lw_at lw_m5 140 rfl) rfl
theorem q1396 : (Jvm.Cond.methodLink "TermsDesk$Desk" (153 : Nat) ({ cls := "TermsDesk$Best", name := "get", desc := "()Ljava/lang/Comparable;" } : Jvm.MethodName)) ∈ lw_all := lw_g (lw_at lw_m6 128 rfl) rfl
theorem q1409 : (Jvm.Cond.instanceMethod ({ cls := "TermsDesk$Desk", name := "choose", desc := "(II)I" } : Jvm.MethodName)) ∈ lw_all := lw_g (lw_at lw_m6 141 rfl) rfl
theorem q1410 : (Jvm.Cond.selects "TermsDesk$Desk" ({ cls := "TermsDesk$Desk", name := "choose", desc := "(II)I" } : Jvm.MethodName) ({ cls := "TermsDesk$Desk", name := "choose", desc := "(II)I" } : Jvm.MethodName)) ∈ lw_all := lw_g (lw_at lw_m6 142 rfl) rfl
theorem q1411 : (Jvm.Cond.code ({ cls := "TermsDesk$Desk", name := "choose", desc := "(II)I" } : Jvm.MethodName) prog_6_method_17_code (4 : Nat) (Option.some Jvm.ClassFile.FieldType.int)) ∈ lw_all := lw_g (lw_at lw_m6 143 rfl) rfl
theorem q1412 : (Jvm.Cond.methodLink "TermsDesk$Desk" (156 : Nat) ({ cls := "TermsDesk$Desk", name := "choice", desc := "(II)LTermsDesk$Choice;" } : Jvm.MethodName)) ∈ lw_all := lw_g (lw_at lw_m6 144 rfl) rfl
theorem q1423 : (Jvm.Cond.instanceMethod ({ cls := "TermsDesk$Desk", name := "ship", desc := "(I)I" } : Jvm.MethodName)) ∈ lw_all := lw_g (lw_at lw_m6 155 rfl) rfl
theorem q1424 : (Jvm.Cond.selects "TermsDesk$Desk" ({ cls := "TermsDesk$Desk", name := "ship", desc := "(I)I" } : Jvm.MethodName) ({ cls := "TermsDesk$Desk", name := "ship", desc := "(I)I" } : Jvm.MethodName)) ∈ lw_all := lw_g (lw_at lw_m6 156 rfl) rfl
theorem q1425 : (Jvm.Cond.codeWith ({ cls := "TermsDesk$Desk", name := "ship", desc := "(I)I" } : Jvm.MethodName) prog_6_method_18_code (5 : Nat) (Option.some Jvm.ClassFile.FieldType.int) [((7 : Nat), (20 : Nat), (20 : Nat), (174 : Nat))]) ∈ lw_all := lw_g (lw_at lw_m6 157 rfl) rfl
theorem q1426 : (Jvm.Cond.classLink "TermsDesk$Desk" (174 : Nat) "java/util/NoSuchElementException") ∈ lw_all := lw_g (lw_at lw_m6 158 rfl) rfl
theorem q1427 : (Jvm.Cond.classLink "TermsDesk$Desk" (165 : Nat) "TermsDesk$Refused") ∈ lw_all := lw_g (lw_at lw_m6 159 rfl) rfl
theorem q1436 : (Jvm.Cond.methodLink "TermsDesk$Desk" (167 : Nat) ({ cls := "TermsDesk$Deed", name := "clash", desc := "(I)LTermsDesk$Clash;" } : Jvm.MethodName)) ∈ lw_all := lw_g (lw_at lw_m6 168 rfl) rfl
theorem q1437 : (Jvm.Cond.methodLink "TermsDesk$Desk" (171 : Nat) ({ cls := "TermsDesk$Refused", name := "<init>", desc := "(LTermsDesk$Clash;)V" } : Jvm.MethodName)) ∈ lw_all := lw_g (lw_at lw_m6 169 rfl) rfl
theorem q1457 : (Jvm.Cond.methodLink "TermsDesk$Desk" (176 : Nat) ({ cls := "TermsDesk$Desk", name := "notice", desc := "(LTermsDesk$Deed;)Ljava/lang/String;" } : Jvm.MethodName)) ∈ lw_all := lw_g (lw_at lw_m6 189 rfl) rfl
theorem q1458 : (Jvm.Cond.privateMethod ({ cls := "TermsDesk$Desk", name := "notice", desc := "(LTermsDesk$Deed;)Ljava/lang/String;" } : Jvm.MethodName)) ∈ lw_tbl := lw_at lw_m6 190 rfl
theorem q1459 : (Jvm.Cond.instanceMethod ({ cls := "TermsDesk$Desk", name := "notice", desc := "(LTermsDesk$Deed;)Ljava/lang/String;" } : Jvm.MethodName)) ∈ lw_all := lw_g (lw_at lw_m6 191 rfl) rfl
theorem q1460 : (Jvm.Cond.code ({ cls := "TermsDesk$Desk", name := "notice", desc := "(LTermsDesk$Deed;)Ljava/lang/String;" } : Jvm.MethodName) prog_6_method_19_code (6 : Nat) (Option.some (Jvm.ClassFile.FieldType.object "java/lang/String"))) ∈ lw_all := lw_g (lw_at lw_m6 192 rfl) rfl
theorem q1461 : (Jvm.Cond.classLink "TermsDesk$Desk" (191 : Nat) "java/lang/StringBuilder") ∈ lw_all := lw_g (lw_at lw_m6 193 rfl) rfl
theorem q1462 : (Jvm.Cond.methodLink "TermsDesk$Desk" (193 : Nat) ({ cls := "java/lang/StringBuilder", name := "<init>", desc := "()V" } : Jvm.MethodName)) ∈ lw_all := lw_g (lw_at lw_m6 194 rfl) rfl
theorem q1463 : (Jvm.Cond.methodLink "TermsDesk$Desk" (194 : Nat) ({ cls := "TermsDesk$Desk", name := "taken", desc := "(I)I" } : Jvm.MethodName)) ∈ lw_all := lw_g (lw_at lw_m6 195 rfl) rfl
theorem q1464 : (Jvm.Cond.instanceMethod ({ cls := "TermsDesk$Desk", name := "taken", desc := "(I)I" } : Jvm.MethodName)) ∈ lw_all := lw_g (lw_at lw_m6 196 rfl) rfl
theorem q1465 : (Jvm.Cond.selects "TermsDesk$Desk" ({ cls := "TermsDesk$Desk", name := "taken", desc := "(I)I" } : Jvm.MethodName) ({ cls := "TermsDesk$Desk", name := "taken", desc := "(I)I" } : Jvm.MethodName)) ∈ lw_all := lw_g (lw_at lw_m6 197 rfl) rfl
theorem q1466 : (Jvm.Cond.code ({ cls := "TermsDesk$Desk", name := "taken", desc := "(I)I" } : Jvm.MethodName) prog_6_method_22_code (4 : Nat) (Option.some Jvm.ClassFile.FieldType.int)) ∈ lw_all := lw_g (lw_at lw_m6 198 rfl) rfl
theorem q1467 : (Jvm.Cond.methodLink "TermsDesk$Desk" (197 : Nat) ({ cls := "TermsDesk$Deed", name := "files", desc := "()I" } : Jvm.MethodName)) ∈ lw_all := lw_g (lw_at lw_m6 199 rfl) rfl
theorem q1468 : (Jvm.Cond.methodLink "TermsDesk$Desk" (199 : Nat) ({ cls := "java/lang/StringBuilder", name := "length", desc := "()I" } : Jvm.MethodName)) ∈ lw_all := lw_g (lw_at lw_m6 200 rfl) rfl
theorem q1475 : (Jvm.Cond.stringRef "TermsDesk$Desk" (200 : Nat) "") ∈ lw_tbl := lw_at lw_m6 207 rfl
theorem q1476 : (Jvm.Cond.stringRef "TermsDesk$Desk" (202 : Nat) "; ") ∈ lw_tbl := lw_at lw_m6 208 rfl
theorem q1477 : (Jvm.Cond.methodLink "TermsDesk$Desk" (204 : Nat) ({ cls := "java/lang/StringBuilder", name := "append", desc := "(Ljava/lang/String;)Ljava/lang/StringBuilder;" } : Jvm.MethodName)) ∈ lw_all := lw_g (lw_at lw_m6 209 rfl) rfl
theorem q1558 : (Jvm.Cond.methodLink "TermsDesk$Desk" (208 : Nat) ({ cls := "java/lang/StringBuilder", name := "append", desc := "(I)Ljava/lang/StringBuilder;" } : Jvm.MethodName)) ∈ lw_all := lw_g (lw_at lw_m7 50 rfl) rfl
theorem q1583 : (Jvm.Cond.stringRef "TermsDesk$Desk" (211 : Nat) ":") ∈ lw_tbl := lw_at lw_m7 75 rfl
theorem q1584 : (Jvm.Cond.methodLink "TermsDesk$Desk" (213 : Nat) ({ cls := "TermsDesk$Desk", name := "numbers", desc := "(I)Ljava/lang/String;" } : Jvm.MethodName)) ∈ lw_all := lw_g (lw_at lw_m7 76 rfl) rfl
theorem q1585 : (Jvm.Cond.static ({ cls := "TermsDesk$Desk", name := "numbers", desc := "(I)Ljava/lang/String;" } : Jvm.MethodName)) ∈ lw_all := lw_g (lw_at lw_m7 77 rfl) rfl
theorem q1586 : (Jvm.Cond.code ({ cls := "TermsDesk$Desk", name := "numbers", desc := "(I)Ljava/lang/String;" } : Jvm.MethodName) prog_6_method_20_code (3 : Nat) (Option.some (Jvm.ClassFile.FieldType.object "java/lang/String"))) ∈ lw_all := lw_g (lw_at lw_m7 78 rfl) rfl
theorem q1587 : (Jvm.Cond.stringRef "TermsDesk$Desk" (227 : Nat) " ") ∈ lw_tbl := lw_at lw_m7 79 rfl
theorem q1588 : (Jvm.Cond.methodLink "TermsDesk$Desk" (223 : Nat) ({ cls := "java/lang/StringBuilder", name := "toString", desc := "()Ljava/lang/String;" } : Jvm.MethodName)) ∈ lw_all := lw_g (lw_at lw_m7 80 rfl) rfl
theorem q1644 : (Jvm.Cond.methodLink "TermsDesk$Desk" (217 : Nat) ({ cls := "TermsDesk$Desk", name := "dueOf", desc := "(LTermsDesk$Deed;I)I" } : Jvm.MethodName)) ∈ lw_all := lw_g (lw_at lw_m7 136 rfl) rfl
theorem q1645 : (Jvm.Cond.privateMethod ({ cls := "TermsDesk$Desk", name := "dueOf", desc := "(LTermsDesk$Deed;I)I" } : Jvm.MethodName)) ∈ lw_tbl := lw_at lw_m7 137 rfl
theorem q1646 : (Jvm.Cond.instanceMethod ({ cls := "TermsDesk$Desk", name := "dueOf", desc := "(LTermsDesk$Deed;I)I" } : Jvm.MethodName)) ∈ lw_all := lw_g (lw_at lw_m7 138 rfl) rfl
theorem q1647 : (Jvm.Cond.code ({ cls := "TermsDesk$Desk", name := "dueOf", desc := "(LTermsDesk$Deed;I)I" } : Jvm.MethodName) prog_6_method_21_code (5 : Nat) (Option.some Jvm.ClassFile.FieldType.int)) ∈ lw_all := lw_g (lw_at lw_m7 139 rfl) rfl
theorem q1648 : (Jvm.Cond.methodLink "TermsDesk$Desk" (229 : Nat) ({ cls := "TermsDesk$Deed", name := "due", desc := "(I)I" } : Jvm.MethodName)) ∈ lw_all := lw_g (lw_at lw_m7 140 rfl) rfl
theorem q1649 : (Jvm.Cond.stringRef "TermsDesk$Desk" (221 : Nat) "!") ∈ lw_tbl := lw_at lw_m7 141 rfl
theorem q1650 : (Jvm.Cond.methodLink "TermsDesk$Desk" (186 : Nat) ({ cls := "java/lang/String", name := "length", desc := "()I" } : Jvm.MethodName)) ∈ lw_all := lw_g (lw_at lw_m7 142 rfl) rfl
theorem q1713 : (Jvm.Cond.instanceMethod ({ cls := "TermsDesk$Desk", name := "sizes", desc := "(I)I" } : Jvm.MethodName)) ∈ lw_all := lw_g (lw_at lw_m7 205 rfl) rfl
theorem q1714 : (Jvm.Cond.selects "TermsDesk$Desk" ({ cls := "TermsDesk$Desk", name := "sizes", desc := "(I)I" } : Jvm.MethodName) ({ cls := "TermsDesk$Desk", name := "sizes", desc := "(I)I" } : Jvm.MethodName)) ∈ lw_all := lw_g (lw_at lw_m7 206 rfl) rfl
theorem q1715 : (Jvm.Cond.code ({ cls := "TermsDesk$Desk", name := "sizes", desc := "(I)I" } : Jvm.MethodName) prog_6_method_23_code (4 : Nat) (Option.some Jvm.ClassFile.FieldType.int)) ∈ lw_all := lw_g (lw_at lw_m7 207 rfl) rfl
theorem q1717 : (Jvm.Cond.instanceMethod ({ cls := "TermsDesk$Desk", name := "withChoice", desc := "(Z)I" } : Jvm.MethodName)) ∈ lw_all := lw_g (lw_at lw_m7 209 rfl) rfl
theorem q1718 : (Jvm.Cond.selects "TermsDesk$Desk" ({ cls := "TermsDesk$Desk", name := "withChoice", desc := "(Z)I" } : Jvm.MethodName) ({ cls := "TermsDesk$Desk", name := "withChoice", desc := "(Z)I" } : Jvm.MethodName)) ∈ lw_all := lw_g (lw_at lw_m7 210 rfl) rfl
theorem q1719 : (Jvm.Cond.code ({ cls := "TermsDesk$Desk", name := "withChoice", desc := "(Z)I" } : Jvm.MethodName) prog_6_method_24_code (5 : Nat) (Option.some Jvm.ClassFile.FieldType.int)) ∈ lw_all := lw_g (lw_at lw_m7 211 rfl) rfl
theorem q1721 : (Jvm.Cond.instanceMethod ({ cls := "TermsDesk$Desk", name := "shippings", desc := "(Z)I" } : Jvm.MethodName)) ∈ lw_all := lw_g (lw_at lw_m7 213 rfl) rfl
theorem q1722 : (Jvm.Cond.selects "TermsDesk$Desk" ({ cls := "TermsDesk$Desk", name := "shippings", desc := "(Z)I" } : Jvm.MethodName) ({ cls := "TermsDesk$Desk", name := "shippings", desc := "(Z)I" } : Jvm.MethodName)) ∈ lw_all := lw_g (lw_at lw_m7 214 rfl) rfl
theorem q1723 : (Jvm.Cond.code ({ cls := "TermsDesk$Desk", name := "shippings", desc := "(Z)I" } : Jvm.MethodName) prog_6_method_25_code (5 : Nat) (Option.some Jvm.ClassFile.FieldType.int)) ∈ lw_all := lw_g (lw_at lw_m7 215 rfl) rfl
theorem q1724 : (Jvm.Cond.methodLink "TermsDesk$Desk" (234 : Nat) ({ cls := "java/lang/Math", name := "min", desc := "(II)I" } : Jvm.MethodName)) ∈ lw_all := lw_g (lw_at lw_m7 216 rfl) rfl
theorem q1756 : (Jvm.Cond.instanceMethod ({ cls := "TermsDesk$Desk", name := "worksWith", desc := "(IZ)I" } : Jvm.MethodName)) ∈ lw_all := lw_g (lw_at lw_m8 8 rfl) rfl
theorem q1757 : (Jvm.Cond.selects "TermsDesk$Desk" ({ cls := "TermsDesk$Desk", name := "worksWith", desc := "(IZ)I" } : Jvm.MethodName) ({ cls := "TermsDesk$Desk", name := "worksWith", desc := "(IZ)I" } : Jvm.MethodName)) ∈ lw_all := lw_g (lw_at lw_m8 9 rfl) rfl
theorem q1758 : (Jvm.Cond.code ({ cls := "TermsDesk$Desk", name := "worksWith", desc := "(IZ)I" } : Jvm.MethodName) prog_6_method_26_code (5 : Nat) (Option.some Jvm.ClassFile.FieldType.int)) ∈ lw_all := lw_g (lw_at lw_m8 10 rfl) rfl
theorem q1777 : (Jvm.Cond.instanceMethod ({ cls := "TermsDesk$Desk", name := "links", desc := "(II)I" } : Jvm.MethodName)) ∈ lw_all := lw_g (lw_at lw_m8 29 rfl) rfl
theorem q1778 : (Jvm.Cond.selects "TermsDesk$Desk" ({ cls := "TermsDesk$Desk", name := "links", desc := "(II)I" } : Jvm.MethodName) ({ cls := "TermsDesk$Desk", name := "links", desc := "(II)I" } : Jvm.MethodName)) ∈ lw_all := lw_g (lw_at lw_m8 30 rfl) rfl
theorem q1779 : (Jvm.Cond.code ({ cls := "TermsDesk$Desk", name := "links", desc := "(II)I" } : Jvm.MethodName) prog_6_method_9_code (7 : Nat) (Option.some Jvm.ClassFile.FieldType.int)) ∈ lw_all := lw_g (lw_at lw_m8 31 rfl) rfl
theorem q1834 : (Jvm.Cond.instanceMethod ({ cls := "TermsDesk$Desk", name := "duesOf", desc := "(I)J" } : Jvm.MethodName)) ∈ lw_all := lw_g (lw_at lw_m8 86 rfl) rfl
theorem q1835 : (Jvm.Cond.selects "TermsDesk$Desk" ({ cls := "TermsDesk$Desk", name := "duesOf", desc := "(I)J" } : Jvm.MethodName) ({ cls := "TermsDesk$Desk", name := "duesOf", desc := "(I)J" } : Jvm.MethodName)) ∈ lw_all := lw_g (lw_at lw_m8 87 rfl) rfl
theorem q1836 : (Jvm.Cond.code ({ cls := "TermsDesk$Desk", name := "duesOf", desc := "(I)J" } : Jvm.MethodName) prog_6_method_29_code (5 : Nat) (Option.some Jvm.ClassFile.FieldType.long)) ∈ lw_all := lw_g (lw_at lw_m8 88 rfl) rfl
theorem q1837 : (Jvm.Cond.methodLink "TermsDesk$Desk" (250 : Nat) ({ cls := "TermsDesk$Deed", name := "due", desc := "()I" } : Jvm.MethodName)) ∈ lw_all := lw_g (lw_at lw_m8 89 rfl) rfl
theorem q2482 : (Jvm.Cond.castable "TermsDesk$Desk" "java/lang/Object") ∈ lw_tbl := lw_at lw_m11 14 rfl
theorem in_X2 : ∀ w ∈ wsX20, w ∈ lw_all := lw_in wsX20 [181, 183, 185] (by decide +kernel) (by decide +kernel)
/-! TermsDesk$Shelf -/
set_option maxRecDepth 100000
def RX3 : String := "TermsDesk$Shelf"
def TX3 : u_T := fun k => match k with
  | 0 => ("TermsDesk$Shelf", "things", "Ljava/util/ArrayList;", true)
  | _ => ("TermsDesk$Shelf", "most", "I", true)
def tyX3 : Nat → FieldType := fun k => match k with
  | 0 => .object "java/util/ArrayList"
  | _ => .int
abbrev wsX30 : List Cond := u_ws RX3 TX3 2
theorem nmX3 : ∀ a, a < 2 → ∀ b, b < 2 → a ≠ b → (TX3 a).2.1 ≠ (TX3 b).2.1 := by decide +kernel
theorem tyX3_ok : ∀ k, k < 2 → parseFieldDescriptor (TX3 k).2.2.1 = some (tyX3 k) := by decide +kernel
abbrev cX3_init : ByteArray := prog_12_method_1_code
def yX3_init : MethodName := ⟨RX3, "<init>", "(I)V"⟩
def dkwX3_init_0 : List UInt8 := [42, 183, 0, 1, 42, 187, 0, 7, 89, 183, 0, 9, 181, 0, 10, 42, 27, 181, 0, 16, 177]
abbrev dktX3_init_0 : List UInt8 := dkwX3_init_0 ++ []
theorem dksX3_init_0 : cX3_init.data.toList.drop 0 = dktX3_init_0 := by decide +kernel
theorem dX3_init_0 : decode cX3_init 0 = .ok (.aload_n 0, 1) := dk_42 (dk_at dksX3_init_0 0 rfl rfl)
theorem dX3_init_1 : decode cX3_init 1 = .ok (.invokespecial 1, 3) := dk_183 0 1 (dk_at dksX3_init_0 1 rfl rfl)
theorem dX3_init_4 : decode cX3_init 4 = .ok (.aload_n 0, 1) := dk_42 (dk_at dksX3_init_0 4 rfl rfl)
theorem dX3_init_5 : decode cX3_init 5 = .ok (.new 7, 3) := dk_187 0 7 (dk_at dksX3_init_0 5 rfl rfl)
theorem dX3_init_8 : decode cX3_init 8 = .ok (.dup, 1) := dk_89 (dk_at dksX3_init_0 8 rfl rfl)
theorem dX3_init_9 : decode cX3_init 9 = .ok (.invokespecial 9, 3) := dk_183 0 9 (dk_at dksX3_init_0 9 rfl rfl)
theorem dX3_init_12 : decode cX3_init 12 = .ok (.putfield 10, 3) := dk_181 0 10 (dk_at dksX3_init_0 12 rfl rfl)
theorem dX3_init_15 : decode cX3_init 15 = .ok (.aload_n 0, 1) := dk_42 (dk_at dksX3_init_0 15 rfl rfl)
theorem dX3_init_16 : decode cX3_init 16 = .ok (.iload_n 1, 1) := dk_27 (dk_at dksX3_init_0 16 rfl rfl)
theorem dX3_init_17 : decode cX3_init 17 = .ok (.putfield 16, 3) := dk_181 0 16 (dk_at dksX3_init_0 17 rfl rfl)
theorem dX3_init_20 : decode cX3_init 20 = .ok (.return_, 1) := dk_177 (dk_at dksX3_init_0 20 rfl rfl)
abbrev cX3_size : ByteArray := prog_12_method_2_code
def yX3_size : MethodName := ⟨RX3, "size", "()I"⟩
def dkwX3_size_0 : List UInt8 := [42, 180, 0, 10, 182, 0, 20, 172]
abbrev dktX3_size_0 : List UInt8 := dkwX3_size_0 ++ []
theorem dksX3_size_0 : cX3_size.data.toList.drop 0 = dktX3_size_0 := by decide +kernel
theorem dX3_size_0 : decode cX3_size 0 = .ok (.aload_n 0, 1) := dk_42 (dk_at dksX3_size_0 0 rfl rfl)
theorem dX3_size_1 : decode cX3_size 1 = .ok (.getfield 10, 3) := dk_180 0 10 (dk_at dksX3_size_0 1 rfl rfl)
theorem dX3_size_4 : decode cX3_size 4 = .ok (.invokevirtual 20, 3) := dk_182 0 20 (dk_at dksX3_size_0 4 rfl rfl)
theorem dX3_size_7 : decode cX3_size 7 = .ok (.ireturn, 1) := dk_172 (dk_at dksX3_size_0 7 rfl rfl)
abbrev cX3_get : ByteArray := prog_12_method_3_code
def yX3_get : MethodName := ⟨RX3, "get", "(I)Ljava/lang/Object;"⟩
def dkwX3_get_1 : List UInt8 := [182, 0, 34, 176]
abbrev dktX3_get_1 : List UInt8 := dkwX3_get_1 ++ []
def dkwX3_get_0 : List UInt8 := [27, 133, 9, 42, 180, 0, 10, 182, 0, 20, 4, 100, 133, 184, 0, 24, 184, 0, 30, 42, 180, 0, 10, 27]
abbrev dktX3_get_0 : List UInt8 := dkwX3_get_0 ++ dktX3_get_1
theorem dksX3_get_0 : cX3_get.data.toList.drop 0 = dktX3_get_0 := by decide +kernel
theorem dksX3_get_1 : cX3_get.data.toList.drop 24 = dktX3_get_1 := dk_seg dksX3_get_0 24 rfl rfl
theorem dX3_get_0 : decode cX3_get 0 = .ok (.iload_n 1, 1) := dk_27 (dk_at dksX3_get_0 0 rfl rfl)
theorem dX3_get_1 : decode cX3_get 1 = .ok (.i2l, 1) := dk_133 (dk_at dksX3_get_0 1 rfl rfl)
theorem dX3_get_2 : decode cX3_get 2 = .ok (.lconst 0, 1) := dk_9 (dk_at dksX3_get_0 2 rfl rfl)
theorem dX3_get_3 : decode cX3_get 3 = .ok (.aload_n 0, 1) := dk_42 (dk_at dksX3_get_0 3 rfl rfl)
theorem dX3_get_4 : decode cX3_get 4 = .ok (.getfield 10, 3) := dk_180 0 10 (dk_at dksX3_get_0 4 rfl rfl)
theorem dX3_get_7 : decode cX3_get 7 = .ok (.invokevirtual 20, 3) := dk_182 0 20 (dk_at dksX3_get_0 7 rfl rfl)
theorem dX3_get_10 : decode cX3_get 10 = .ok (.iconst 1, 1) := dk_4 (dk_at dksX3_get_0 10 rfl rfl)
theorem dX3_get_11 : decode cX3_get 11 = .ok (.isub, 1) := dk_100 (dk_at dksX3_get_0 11 rfl rfl)
theorem dX3_get_12 : decode cX3_get 12 = .ok (.i2l, 1) := dk_133 (dk_at dksX3_get_0 12 rfl rfl)
theorem dX3_get_13 : decode cX3_get 13 = .ok (.invokestatic 24, 3) := dk_184 0 24 (dk_at dksX3_get_0 13 rfl rfl)
theorem dX3_get_16 : decode cX3_get 16 = .ok (.invokestatic 30, 3) := dk_184 0 30 (dk_at dksX3_get_0 16 rfl rfl)
theorem dX3_get_19 : decode cX3_get 19 = .ok (.aload_n 0, 1) := dk_42 (dk_at dksX3_get_0 19 rfl rfl)
theorem dX3_get_20 : decode cX3_get 20 = .ok (.getfield 10, 3) := dk_180 0 10 (dk_at dksX3_get_0 20 rfl rfl)
theorem dX3_get_23 : decode cX3_get 23 = .ok (.iload_n 1, 1) := dk_27 (dk_at dksX3_get_0 23 rfl rfl)
theorem dX3_get_24 : decode cX3_get 24 = .ok (.invokevirtual 34, 3) := dk_182 0 34 (dk_at dksX3_get_1 0 rfl rfl)
theorem dX3_get_27 : decode cX3_get 27 = .ok (.areturn, 1) := dk_176 (dk_at dksX3_get_1 3 rfl rfl)
abbrev cX3_iterator : ByteArray := prog_12_method_5_code
def yX3_iterator : MethodName := ⟨RX3, "iterator", "()Ljava/util/Iterator;"⟩
def dkwX3_iterator_0 : List UInt8 := [42, 180, 0, 10, 182, 0, 45, 176]
abbrev dktX3_iterator_0 : List UInt8 := dkwX3_iterator_0 ++ []
theorem dksX3_iterator_0 : cX3_iterator.data.toList.drop 0 = dktX3_iterator_0 := by decide +kernel
theorem dX3_iterator_0 : decode cX3_iterator 0 = .ok (.aload_n 0, 1) := dk_42 (dk_at dksX3_iterator_0 0 rfl rfl)
theorem dX3_iterator_1 : decode cX3_iterator 1 = .ok (.getfield 10, 3) := dk_180 0 10 (dk_at dksX3_iterator_0 1 rfl rfl)
theorem dX3_iterator_4 : decode cX3_iterator 4 = .ok (.invokevirtual 45, 3) := dk_182 0 45 (dk_at dksX3_iterator_0 4 rfl rfl)
theorem dX3_iterator_7 : decode cX3_iterator 7 = .ok (.areturn, 1) := dk_176 (dk_at dksX3_iterator_0 7 rfl rfl)
abbrev cX3_add : ByteArray := prog_12_method_4_code
def yX3_add : MethodName := ⟨RX3, "add", "(Ljava/lang/Object;)I"⟩
def dkwX3_add_1 : List UInt8 := [180, 0, 10, 43, 182, 0, 41, 61, 42, 180, 0, 10, 182, 0, 20, 4, 100, 172]
abbrev dktX3_add_1 : List UInt8 := dkwX3_add_1 ++ []
def dkwX3_add_0 : List UInt8 := [42, 180, 0, 10, 182, 0, 20, 42, 180, 0, 16, 162, 0, 7, 4, 167, 0, 4, 3, 184, 0, 38, 42]
abbrev dktX3_add_0 : List UInt8 := dkwX3_add_0 ++ dktX3_add_1
theorem dksX3_add_0 : cX3_add.data.toList.drop 0 = dktX3_add_0 := by decide +kernel
theorem dksX3_add_1 : cX3_add.data.toList.drop 23 = dktX3_add_1 := dk_seg dksX3_add_0 23 rfl rfl
theorem dX3_add_0 : decode cX3_add 0 = .ok (.aload_n 0, 1) := dk_42 (dk_at dksX3_add_0 0 rfl rfl)
theorem dX3_add_1 : decode cX3_add 1 = .ok (.getfield 10, 3) := dk_180 0 10 (dk_at dksX3_add_0 1 rfl rfl)
theorem dX3_add_4 : decode cX3_add 4 = .ok (.invokevirtual 20, 3) := dk_182 0 20 (dk_at dksX3_add_0 4 rfl rfl)
theorem dX3_add_7 : decode cX3_add 7 = .ok (.aload_n 0, 1) := dk_42 (dk_at dksX3_add_0 7 rfl rfl)
theorem dX3_add_8 : decode cX3_add 8 = .ok (.getfield 16, 3) := dk_180 0 16 (dk_at dksX3_add_0 8 rfl rfl)
theorem dX3_add_11 : decode cX3_add 11 = .ok (.if_icmp .ge 7, 3) := dk_162 0 7 (dk_at dksX3_add_0 11 rfl rfl)
theorem dX3_add_14 : decode cX3_add 14 = .ok (.iconst 1, 1) := dk_4 (dk_at dksX3_add_0 14 rfl rfl)
theorem dX3_add_15 : decode cX3_add 15 = .ok (.goto 4, 3) := dk_167 0 4 (dk_at dksX3_add_0 15 rfl rfl)
theorem dX3_add_18 : decode cX3_add 18 = .ok (.iconst 0, 1) := dk_3 (dk_at dksX3_add_0 18 rfl rfl)
theorem dX3_add_19 : decode cX3_add 19 = .ok (.invokestatic 38, 3) := dk_184 0 38 (dk_at dksX3_add_0 19 rfl rfl)
theorem dX3_add_22 : decode cX3_add 22 = .ok (.aload_n 0, 1) := dk_42 (dk_at dksX3_add_0 22 rfl rfl)
theorem dX3_add_23 : decode cX3_add 23 = .ok (.getfield 10, 3) := dk_180 0 10 (dk_at dksX3_add_1 0 rfl rfl)
theorem dX3_add_26 : decode cX3_add 26 = .ok (.aload_n 1, 1) := dk_43 (dk_at dksX3_add_1 3 rfl rfl)
theorem dX3_add_27 : decode cX3_add 27 = .ok (.invokevirtual 41, 3) := dk_182 0 41 (dk_at dksX3_add_1 4 rfl rfl)
theorem dX3_add_30 : decode cX3_add 30 = .ok (.istore_n 2, 1) := dk_61 (dk_at dksX3_add_1 7 rfl rfl)
theorem dX3_add_31 : decode cX3_add 31 = .ok (.aload_n 0, 1) := dk_42 (dk_at dksX3_add_1 8 rfl rfl)
theorem dX3_add_32 : decode cX3_add 32 = .ok (.getfield 10, 3) := dk_180 0 10 (dk_at dksX3_add_1 9 rfl rfl)
theorem dX3_add_35 : decode cX3_add 35 = .ok (.invokevirtual 20, 3) := dk_182 0 20 (dk_at dksX3_add_1 12 rfl rfl)
theorem dX3_add_38 : decode cX3_add 38 = .ok (.iconst 1, 1) := dk_4 (dk_at dksX3_add_1 15 rfl rfl)
theorem dX3_add_39 : decode cX3_add 39 = .ok (.isub, 1) := dk_100 (dk_at dksX3_add_1 16 rfl rfl)
theorem dX3_add_40 : decode cX3_add 40 = .ok (.ireturn, 1) := dk_172 (dk_at dksX3_add_1 17 rfl rfl)
theorem q71 : (Jvm.Cond.initialized "TermsDesk$Shelf") ∈ lw_all := lw_g (lw_at lw_m1 3 rfl) rfl
theorem q131 : (Jvm.Cond.instantiable "TermsDesk$Shelf" (2 : Nat)) ∈ lw_all := lw_g (lw_at lw_m1 63 rfl) rfl
theorem q133 : (Jvm.Cond.instanceMethod ({ cls := "TermsDesk$Shelf", name := "<init>", desc := "(I)V" } : Jvm.MethodName)) ∈ lw_all := lw_g (lw_at lw_m1 65 rfl) rfl
theorem q134 : (Jvm.Cond.code ({ cls := "TermsDesk$Shelf", name := "<init>", desc := "(I)V" } : Jvm.MethodName) prog_12_method_1_code (2 : Nat) (Option.none : Option Jvm.ClassFile.FieldType)) ∈ lw_all := lw_g (lw_at lw_m1 66 rfl) rfl
theorem q135 : (Jvm.Cond.methodLink "TermsDesk$Shelf" (1 : Nat) ({ cls := "java/lang/Object", name := "<init>", desc := "()V" } : Jvm.MethodName)) ∈ lw_all := lw_g (lw_at lw_m1 67 rfl) rfl
theorem q136 : (Jvm.Cond.classLink "TermsDesk$Shelf" (7 : Nat) "java/util/ArrayList") ∈ lw_all := lw_g (lw_at lw_m1 68 rfl) rfl
theorem q138 : (Jvm.Cond.methodLink "TermsDesk$Shelf" (9 : Nat) ({ cls := "java/util/ArrayList", name := "<init>", desc := "()V" } : Jvm.MethodName)) ∈ lw_all := lw_g (lw_at lw_m1 70 rfl) rfl
theorem q165 : (Jvm.Cond.fieldLink "TermsDesk$Shelf" (10 : Nat) "TermsDesk$Shelf" "things" "Ljava/util/ArrayList;") ∈ lw_all := lw_g (lw_at lw_m1 97 rfl) rfl
theorem q166 : (Jvm.Cond.fieldLink "TermsDesk$Shelf" (16 : Nat) "TermsDesk$Shelf" "most" "I") ∈ lw_all := lw_g (lw_at lw_m1 98 rfl) rfl
theorem q167 : (Jvm.Cond.laysFinal "TermsDesk$Shelf" "TermsDesk$Shelf" "things" "Ljava/util/ArrayList;") ∈ lw_all := lw_g (lw_at lw_m1 99 rfl) rfl
theorem q168 : (Jvm.Cond.soleField "TermsDesk$Shelf" "things") ∈ lw_all := lw_g (lw_at lw_m1 100 rfl) rfl
theorem q169 : (Jvm.Cond.laysFinal "TermsDesk$Shelf" "TermsDesk$Shelf" "most" "I") ∈ lw_all := lw_g (lw_at lw_m1 101 rfl) rfl
theorem q170 : (Jvm.Cond.soleField "TermsDesk$Shelf" "most") ∈ lw_all := lw_g (lw_at lw_m1 102 rfl) rfl
theorem q171 : (Jvm.Cond.superclass "TermsDesk$Shelf" "java/lang/Object") ∈ lw_all := lw_g (lw_at lw_m1 103 rfl) rfl
theorem q271 : (Jvm.Cond.instanceMethod ({ cls := "TermsDesk$Shelf", name := "size", desc := "()I" } : Jvm.MethodName)) ∈ lw_all := lw_g (lw_at lw_m1 203 rfl) rfl
theorem q272 : (Jvm.Cond.selects "TermsDesk$Shelf" ({ cls := "TermsDesk$Shelf", name := "size", desc := "()I" } : Jvm.MethodName) ({ cls := "TermsDesk$Shelf", name := "size", desc := "()I" } : Jvm.MethodName)) ∈ lw_all := lw_g (lw_at lw_m1 204 rfl) rfl
theorem q273 : (Jvm.Cond.code ({ cls := "TermsDesk$Shelf", name := "size", desc := "()I" } : Jvm.MethodName) prog_12_method_2_code (1 : Nat) (Option.some Jvm.ClassFile.FieldType.int)) ∈ lw_all := lw_g (lw_at lw_m1 205 rfl) rfl
theorem q274 : (Jvm.Cond.methodLink "TermsDesk$Shelf" (20 : Nat) ({ cls := "java/util/ArrayList", name := "size", desc := "()I" } : Jvm.MethodName)) ∈ lw_all := lw_g (lw_at lw_m1 206 rfl) rfl
theorem q305 : (Jvm.Cond.instanceMethod ({ cls := "TermsDesk$Shelf", name := "get", desc := "(I)Ljava/lang/Object;" } : Jvm.MethodName)) ∈ lw_all := lw_g (lw_at lw_m1 237 rfl) rfl
theorem q306 : (Jvm.Cond.selects "TermsDesk$Shelf" ({ cls := "TermsDesk$Shelf", name := "get", desc := "(I)Ljava/lang/Object;" } : Jvm.MethodName) ({ cls := "TermsDesk$Shelf", name := "get", desc := "(I)Ljava/lang/Object;" } : Jvm.MethodName)) ∈ lw_all := lw_g (lw_at lw_m1 238 rfl) rfl
theorem q307 : (Jvm.Cond.code ({ cls := "TermsDesk$Shelf", name := "get", desc := "(I)Ljava/lang/Object;" } : Jvm.MethodName) prog_12_method_3_code (2 : Nat) (Option.some (Jvm.ClassFile.FieldType.object "java/lang/Object"))) ∈ lw_all := lw_g (lw_at lw_m1 239 rfl) rfl
theorem q308 : (Jvm.Cond.methodLinkNest "TermsDesk$Shelf" (24 : Nat) ({ cls := "TermsDesk", name := "inRange", desc := "(JJJ)Z" } : Jvm.MethodName) "TermsDesk") ∈ lw_tbl := lw_at lw_m2 0 rfl
theorem q311 : (Jvm.Cond.methodLinkNest "TermsDesk$Shelf" (30 : Nat) ({ cls := "TermsDesk", name := "checkIndex", desc := "(Z)V" } : Jvm.MethodName) "TermsDesk") ∈ lw_tbl := lw_at lw_m2 3 rfl
theorem q384 : (Jvm.Cond.methodLink "TermsDesk$Shelf" (34 : Nat) ({ cls := "java/util/ArrayList", name := "get", desc := "(I)Ljava/lang/Object;" } : Jvm.MethodName)) ∈ lw_all := lw_g (lw_at lw_m2 76 rfl) rfl
theorem q582 : (Jvm.Cond.instanceMethod ({ cls := "TermsDesk$Shelf", name := "iterator", desc := "()Ljava/util/Iterator;" } : Jvm.MethodName)) ∈ lw_all := lw_g (lw_at lw_m3 34 rfl) rfl
theorem q583 : (Jvm.Cond.selects "TermsDesk$Shelf" ({ cls := "TermsDesk$Shelf", name := "iterator", desc := "()Ljava/util/Iterator;" } : Jvm.MethodName) ({ cls := "TermsDesk$Shelf", name := "iterator", desc := "()Ljava/util/Iterator;" } : Jvm.MethodName)) ∈ lw_all := lw_g (lw_at lw_m3 35 rfl) rfl
theorem q584 : (Jvm.Cond.code ({ cls := "TermsDesk$Shelf", name := "iterator", desc := "()Ljava/util/Iterator;" } : Jvm.MethodName) prog_12_method_5_code (1 : Nat) (Option.some (Jvm.ClassFile.FieldType.object "java/util/Iterator"))) ∈ lw_all := lw_g (lw_at lw_m3 36 rfl) rfl
theorem q585 : (Jvm.Cond.methodLink "TermsDesk$Shelf" (45 : Nat) ({ cls := "java/util/ArrayList", name := "iterator", desc := "()Ljava/util/Iterator;" } : Jvm.MethodName)) ∈ lw_all := lw_g (lw_at lw_m3 37 rfl) rfl
theorem q679 : (Jvm.Cond.instanceMethod ({ cls := "TermsDesk$Shelf", name := "add", desc := "(Ljava/lang/Object;)I" } : Jvm.MethodName)) ∈ lw_all := lw_g (lw_at lw_m3 131 rfl) rfl
theorem q680 : (Jvm.Cond.selects "TermsDesk$Shelf" ({ cls := "TermsDesk$Shelf", name := "add", desc := "(Ljava/lang/Object;)I" } : Jvm.MethodName) ({ cls := "TermsDesk$Shelf", name := "add", desc := "(Ljava/lang/Object;)I" } : Jvm.MethodName)) ∈ lw_all := lw_g (lw_at lw_m3 132 rfl) rfl
theorem q681 : (Jvm.Cond.code ({ cls := "TermsDesk$Shelf", name := "add", desc := "(Ljava/lang/Object;)I" } : Jvm.MethodName) prog_12_method_4_code (3 : Nat) (Option.some Jvm.ClassFile.FieldType.int)) ∈ lw_all := lw_g (lw_at lw_m3 133 rfl) rfl
theorem q682 : (Jvm.Cond.methodLinkNest "TermsDesk$Shelf" (38 : Nat) ({ cls := "TermsDesk", name := "checkState", desc := "(Z)V" } : Jvm.MethodName) "TermsDesk") ∈ lw_tbl := lw_at lw_m3 134 rfl
theorem q700 : (Jvm.Cond.methodLink "TermsDesk$Shelf" (41 : Nat) ({ cls := "java/util/ArrayList", name := "add", desc := "(Ljava/lang/Object;)Z" } : Jvm.MethodName)) ∈ lw_all := lw_g (lw_at lw_m3 152 rfl) rfl
theorem q743 : (Jvm.Cond.selects "TermsDesk$Shelf" ({ cls := "java/lang/Object", name := "getClass", desc := "()Ljava/lang/Class;" } : Jvm.MethodName) ({ cls := "java/lang/Object", name := "getClass", desc := "()Ljava/lang/Class;" } : Jvm.MethodName)) ∈ lw_all := lw_g (lw_at lw_m3 195 rfl) rfl
theorem q2483 : (Jvm.Cond.castable "TermsDesk$Shelf" "java/lang/Object") ∈ lw_tbl := lw_at lw_m11 15 rfl
theorem in_X3 : ∀ w ∈ wsX30, w ∈ lw_all := lw_in wsX30 [167, 169] (by decide +kernel) (by decide +kernel)
/-! TermsDesk$Licence -/
set_option maxRecDepth 100000
def RX5 : String := "TermsDesk$Licence"
def TX5 : u_T := fun k => match k with
  | 0 => ("TermsDesk$Licence", "permits", "I", true)
  | 1 => ("TermsDesk$Licence", "bars", "I", true)
  | 2 => ("TermsDesk$Licence", "reach", "I", true)
  | _ => ("TermsDesk$Licence", "demands", "J", false)
def tyX5 : Nat → FieldType := fun k => match k with
  | 0 => .int
  | 1 => .int
  | 2 => .int
  | _ => .long
abbrev wsX50 : List Cond := u_ws RX5 TX5 4
theorem nmX5 : ∀ a, a < 4 → ∀ b, b < 4 → a ≠ b → (TX5 a).2.1 ≠ (TX5 b).2.1 := by decide +kernel
theorem tyX5_ok : ∀ k, k < 4 → parseFieldDescriptor (TX5 k).2.2.1 = some (tyX5 k) := by decide +kernel
abbrev cX5_copy : ByteArray := prog_8_method_2_code
def yX5_copy : MethodName := ⟨RX5, "copy", "()LTermsDesk$Licence;"⟩
def dkwX5_copy_1 : List UInt8 := [180, 0, 24, 181, 0, 24, 43, 176]
abbrev dktX5_copy_1 : List UInt8 := dkwX5_copy_1 ++ []
def dkwX5_copy_0 : List UInt8 := [187, 0, 10, 89, 42, 180, 0, 9, 42, 180, 0, 15, 42, 180, 0, 18, 183, 0, 21, 76, 43, 42]
abbrev dktX5_copy_0 : List UInt8 := dkwX5_copy_0 ++ dktX5_copy_1
theorem dksX5_copy_0 : cX5_copy.data.toList.drop 0 = dktX5_copy_0 := by decide +kernel
theorem dksX5_copy_1 : cX5_copy.data.toList.drop 22 = dktX5_copy_1 := dk_seg dksX5_copy_0 22 rfl rfl
theorem dX5_copy_0 : decode cX5_copy 0 = .ok (.new 10, 3) := dk_187 0 10 (dk_at dksX5_copy_0 0 rfl rfl)
theorem dX5_copy_3 : decode cX5_copy 3 = .ok (.dup, 1) := dk_89 (dk_at dksX5_copy_0 3 rfl rfl)
theorem dX5_copy_4 : decode cX5_copy 4 = .ok (.aload_n 0, 1) := dk_42 (dk_at dksX5_copy_0 4 rfl rfl)
theorem dX5_copy_5 : decode cX5_copy 5 = .ok (.getfield 9, 3) := dk_180 0 9 (dk_at dksX5_copy_0 5 rfl rfl)
theorem dX5_copy_8 : decode cX5_copy 8 = .ok (.aload_n 0, 1) := dk_42 (dk_at dksX5_copy_0 8 rfl rfl)
theorem dX5_copy_9 : decode cX5_copy 9 = .ok (.getfield 15, 3) := dk_180 0 15 (dk_at dksX5_copy_0 9 rfl rfl)
theorem dX5_copy_12 : decode cX5_copy 12 = .ok (.aload_n 0, 1) := dk_42 (dk_at dksX5_copy_0 12 rfl rfl)
theorem dX5_copy_13 : decode cX5_copy 13 = .ok (.getfield 18, 3) := dk_180 0 18 (dk_at dksX5_copy_0 13 rfl rfl)
theorem dX5_copy_16 : decode cX5_copy 16 = .ok (.invokespecial 21, 3) := dk_183 0 21 (dk_at dksX5_copy_0 16 rfl rfl)
theorem dX5_copy_19 : decode cX5_copy 19 = .ok (.astore_n 1, 1) := dk_76 (dk_at dksX5_copy_0 19 rfl rfl)
theorem dX5_copy_20 : decode cX5_copy 20 = .ok (.aload_n 1, 1) := dk_43 (dk_at dksX5_copy_0 20 rfl rfl)
theorem dX5_copy_21 : decode cX5_copy 21 = .ok (.aload_n 0, 1) := dk_42 (dk_at dksX5_copy_0 21 rfl rfl)
theorem dX5_copy_22 : decode cX5_copy 22 = .ok (.getfield 24, 3) := dk_180 0 24 (dk_at dksX5_copy_1 0 rfl rfl)
theorem dX5_copy_25 : decode cX5_copy 25 = .ok (.putfield 24, 3) := dk_181 0 24 (dk_at dksX5_copy_1 3 rfl rfl)
theorem dX5_copy_28 : decode cX5_copy 28 = .ok (.aload_n 1, 1) := dk_43 (dk_at dksX5_copy_1 6 rfl rfl)
theorem dX5_copy_29 : decode cX5_copy 29 = .ok (.areturn, 1) := dk_176 (dk_at dksX5_copy_1 7 rfl rfl)
abbrev cX5_init : ByteArray := prog_8_method_1_code
def yX5_init : MethodName := ⟨RX5, "<init>", "(III)V"⟩
def dkwX5_init_0 : List UInt8 := [42, 183, 0, 3, 42, 27, 181, 0, 9, 42, 28, 181, 0, 15, 42, 29, 181, 0, 18, 177]
abbrev dktX5_init_0 : List UInt8 := dkwX5_init_0 ++ []
theorem dksX5_init_0 : cX5_init.data.toList.drop 0 = dktX5_init_0 := by decide +kernel
theorem dX5_init_0 : decode cX5_init 0 = .ok (.aload_n 0, 1) := dk_42 (dk_at dksX5_init_0 0 rfl rfl)
theorem dX5_init_1 : decode cX5_init 1 = .ok (.invokespecial 3, 3) := dk_183 0 3 (dk_at dksX5_init_0 1 rfl rfl)
theorem dX5_init_4 : decode cX5_init 4 = .ok (.aload_n 0, 1) := dk_42 (dk_at dksX5_init_0 4 rfl rfl)
theorem dX5_init_5 : decode cX5_init 5 = .ok (.iload_n 1, 1) := dk_27 (dk_at dksX5_init_0 5 rfl rfl)
theorem dX5_init_6 : decode cX5_init 6 = .ok (.putfield 9, 3) := dk_181 0 9 (dk_at dksX5_init_0 6 rfl rfl)
theorem dX5_init_9 : decode cX5_init 9 = .ok (.aload_n 0, 1) := dk_42 (dk_at dksX5_init_0 9 rfl rfl)
theorem dX5_init_10 : decode cX5_init 10 = .ok (.iload_n 2, 1) := dk_28 (dk_at dksX5_init_0 10 rfl rfl)
theorem dX5_init_11 : decode cX5_init 11 = .ok (.putfield 15, 3) := dk_181 0 15 (dk_at dksX5_init_0 11 rfl rfl)
theorem dX5_init_14 : decode cX5_init 14 = .ok (.aload_n 0, 1) := dk_42 (dk_at dksX5_init_0 14 rfl rfl)
theorem dX5_init_15 : decode cX5_init 15 = .ok (.iload_n 3, 1) := dk_29 (dk_at dksX5_init_0 15 rfl rfl)
theorem dX5_init_16 : decode cX5_init 16 = .ok (.putfield 18, 3) := dk_181 0 18 (dk_at dksX5_init_0 16 rfl rfl)
theorem dX5_init_19 : decode cX5_init 19 = .ok (.return_, 1) := dk_177 (dk_at dksX5_init_0 19 rfl rfl)
abbrev cX5_demand : ByteArray := prog_8_method_3_code
def yX5_demand : MethodName := ⟨RX5, "demand", "(II)I"⟩
def dkwX5_demand_1 : List UInt8 := [20, 0, 34, 131, 127, 28, 133, 16, 10, 27, 104, 121, 129, 181, 0, 24, 29, 172]
abbrev dktX5_demand_1 : List UInt8 := dkwX5_demand_1 ++ []
def dkwX5_demand_0 : List UInt8 := [42, 180, 0, 24, 27, 184, 0, 28, 62, 42, 42, 180, 0, 24, 20, 0, 32, 16, 10, 27, 104, 121]
abbrev dktX5_demand_0 : List UInt8 := dkwX5_demand_0 ++ dktX5_demand_1
theorem dksX5_demand_0 : cX5_demand.data.toList.drop 0 = dktX5_demand_0 := by decide +kernel
theorem dksX5_demand_1 : cX5_demand.data.toList.drop 22 = dktX5_demand_1 := dk_seg dksX5_demand_0 22 rfl rfl
theorem dX5_demand_0 : decode cX5_demand 0 = .ok (.aload_n 0, 1) := dk_42 (dk_at dksX5_demand_0 0 rfl rfl)
theorem dX5_demand_1 : decode cX5_demand 1 = .ok (.getfield 24, 3) := dk_180 0 24 (dk_at dksX5_demand_0 1 rfl rfl)
theorem dX5_demand_4 : decode cX5_demand 4 = .ok (.iload_n 1, 1) := dk_27 (dk_at dksX5_demand_0 4 rfl rfl)
theorem dX5_demand_5 : decode cX5_demand 5 = .ok (.invokestatic 28, 3) := dk_184 0 28 (dk_at dksX5_demand_0 5 rfl rfl)
theorem dX5_demand_8 : decode cX5_demand 8 = .ok (.istore_n 3, 1) := dk_62 (dk_at dksX5_demand_0 8 rfl rfl)
theorem dX5_demand_9 : decode cX5_demand 9 = .ok (.aload_n 0, 1) := dk_42 (dk_at dksX5_demand_0 9 rfl rfl)
theorem dX5_demand_10 : decode cX5_demand 10 = .ok (.aload_n 0, 1) := dk_42 (dk_at dksX5_demand_0 10 rfl rfl)
theorem dX5_demand_11 : decode cX5_demand 11 = .ok (.getfield 24, 3) := dk_180 0 24 (dk_at dksX5_demand_0 11 rfl rfl)
theorem dX5_demand_14 : decode cX5_demand 14 = .ok (.ldc2_w 32, 3) := dk_20 0 32 (dk_at dksX5_demand_0 14 rfl rfl)
theorem dX5_demand_17 : decode cX5_demand 17 = .ok (.bipush 10, 2) := dk_16 10 (dk_at dksX5_demand_0 17 rfl rfl)
theorem dX5_demand_19 : decode cX5_demand 19 = .ok (.iload_n 1, 1) := dk_27 (dk_at dksX5_demand_0 19 rfl rfl)
theorem dX5_demand_20 : decode cX5_demand 20 = .ok (.imul, 1) := dk_104 (dk_at dksX5_demand_0 20 rfl rfl)
theorem dX5_demand_21 : decode cX5_demand 21 = .ok (.lshl, 1) := dk_121 (dk_at dksX5_demand_0 21 rfl rfl)
theorem dX5_demand_22 : decode cX5_demand 22 = .ok (.ldc2_w 34, 3) := dk_20 0 34 (dk_at dksX5_demand_1 0 rfl rfl)
theorem dX5_demand_25 : decode cX5_demand 25 = .ok (.lxor, 1) := dk_131 (dk_at dksX5_demand_1 3 rfl rfl)
theorem dX5_demand_26 : decode cX5_demand 26 = .ok (.land, 1) := dk_127 (dk_at dksX5_demand_1 4 rfl rfl)
theorem dX5_demand_27 : decode cX5_demand 27 = .ok (.iload_n 2, 1) := dk_28 (dk_at dksX5_demand_1 5 rfl rfl)
theorem dX5_demand_28 : decode cX5_demand 28 = .ok (.i2l, 1) := dk_133 (dk_at dksX5_demand_1 6 rfl rfl)
theorem dX5_demand_29 : decode cX5_demand 29 = .ok (.bipush 10, 2) := dk_16 10 (dk_at dksX5_demand_1 7 rfl rfl)
theorem dX5_demand_31 : decode cX5_demand 31 = .ok (.iload_n 1, 1) := dk_27 (dk_at dksX5_demand_1 9 rfl rfl)
theorem dX5_demand_32 : decode cX5_demand 32 = .ok (.imul, 1) := dk_104 (dk_at dksX5_demand_1 10 rfl rfl)
theorem dX5_demand_33 : decode cX5_demand 33 = .ok (.lshl, 1) := dk_121 (dk_at dksX5_demand_1 11 rfl rfl)
theorem dX5_demand_34 : decode cX5_demand 34 = .ok (.lor, 1) := dk_129 (dk_at dksX5_demand_1 12 rfl rfl)
theorem dX5_demand_35 : decode cX5_demand 35 = .ok (.putfield 24, 3) := dk_181 0 24 (dk_at dksX5_demand_1 13 rfl rfl)
theorem dX5_demand_38 : decode cX5_demand 38 = .ok (.iload_n 3, 1) := dk_29 (dk_at dksX5_demand_1 16 rfl rfl)
theorem dX5_demand_39 : decode cX5_demand 39 = .ok (.ireturn, 1) := dk_172 (dk_at dksX5_demand_1 17 rfl rfl)
theorem q87 : (Jvm.Cond.initialized "TermsDesk$Licence") ∈ lw_all := lw_g (lw_at lw_m1 19 rfl) rfl
theorem q648 : (Jvm.Cond.instanceMethod ({ cls := "TermsDesk$Licence", name := "copy", desc := "()LTermsDesk$Licence;" } : Jvm.MethodName)) ∈ lw_all := lw_g (lw_at lw_m3 100 rfl) rfl
theorem q649 : (Jvm.Cond.selects "TermsDesk$Licence" ({ cls := "TermsDesk$Licence", name := "copy", desc := "()LTermsDesk$Licence;" } : Jvm.MethodName) ({ cls := "TermsDesk$Licence", name := "copy", desc := "()LTermsDesk$Licence;" } : Jvm.MethodName)) ∈ lw_all := lw_g (lw_at lw_m3 101 rfl) rfl
theorem q650 : (Jvm.Cond.code ({ cls := "TermsDesk$Licence", name := "copy", desc := "()LTermsDesk$Licence;" } : Jvm.MethodName) prog_8_method_2_code (2 : Nat) (Option.some (Jvm.ClassFile.FieldType.object "TermsDesk$Licence"))) ∈ lw_all := lw_g (lw_at lw_m3 102 rfl) rfl
theorem q651 : (Jvm.Cond.classLink "TermsDesk$Licence" (10 : Nat) "TermsDesk$Licence") ∈ lw_all := lw_g (lw_at lw_m3 103 rfl) rfl
theorem q652 : (Jvm.Cond.instantiable "TermsDesk$Licence" (4 : Nat)) ∈ lw_all := lw_g (lw_at lw_m3 104 rfl) rfl
theorem q653 : (Jvm.Cond.methodLink "TermsDesk$Licence" (21 : Nat) ({ cls := "TermsDesk$Licence", name := "<init>", desc := "(III)V" } : Jvm.MethodName)) ∈ lw_all := lw_g (lw_at lw_m3 105 rfl) rfl
theorem q654 : (Jvm.Cond.instanceMethod ({ cls := "TermsDesk$Licence", name := "<init>", desc := "(III)V" } : Jvm.MethodName)) ∈ lw_all := lw_g (lw_at lw_m3 106 rfl) rfl
theorem q655 : (Jvm.Cond.code ({ cls := "TermsDesk$Licence", name := "<init>", desc := "(III)V" } : Jvm.MethodName) prog_8_method_1_code (4 : Nat) (Option.none : Option Jvm.ClassFile.FieldType)) ∈ lw_all := lw_g (lw_at lw_m3 107 rfl) rfl
theorem q656 : (Jvm.Cond.methodLink "TermsDesk$Licence" (3 : Nat) ({ cls := "java/lang/Object", name := "<init>", desc := "()V" } : Jvm.MethodName)) ∈ lw_all := lw_g (lw_at lw_m3 108 rfl) rfl
theorem q657 : (Jvm.Cond.fieldLink "TermsDesk$Licence" (9 : Nat) "TermsDesk$Licence" "permits" "I") ∈ lw_all := lw_g (lw_at lw_m3 109 rfl) rfl
theorem q660 : (Jvm.Cond.fieldLink "TermsDesk$Licence" (15 : Nat) "TermsDesk$Licence" "bars" "I") ∈ lw_all := lw_g (lw_at lw_m3 112 rfl) rfl
theorem q663 : (Jvm.Cond.fieldLink "TermsDesk$Licence" (18 : Nat) "TermsDesk$Licence" "reach" "I") ∈ lw_all := lw_g (lw_at lw_m3 115 rfl) rfl
theorem q666 : (Jvm.Cond.fieldLink "TermsDesk$Licence" (24 : Nat) "TermsDesk$Licence" "demands" "J") ∈ lw_all := lw_g (lw_at lw_m3 118 rfl) rfl
theorem q669 : (Jvm.Cond.laysFinal "TermsDesk$Licence" "TermsDesk$Licence" "permits" "I") ∈ lw_all := lw_g (lw_at lw_m3 121 rfl) rfl
theorem q670 : (Jvm.Cond.soleField "TermsDesk$Licence" "permits") ∈ lw_all := lw_g (lw_at lw_m3 122 rfl) rfl
theorem q671 : (Jvm.Cond.laysFinal "TermsDesk$Licence" "TermsDesk$Licence" "bars" "I") ∈ lw_all := lw_g (lw_at lw_m3 123 rfl) rfl
theorem q672 : (Jvm.Cond.soleField "TermsDesk$Licence" "bars") ∈ lw_all := lw_g (lw_at lw_m3 124 rfl) rfl
theorem q673 : (Jvm.Cond.laysFinal "TermsDesk$Licence" "TermsDesk$Licence" "reach" "I") ∈ lw_all := lw_g (lw_at lw_m3 125 rfl) rfl
theorem q674 : (Jvm.Cond.soleField "TermsDesk$Licence" "reach") ∈ lw_all := lw_g (lw_at lw_m3 126 rfl) rfl
theorem q675 : (Jvm.Cond.lays "TermsDesk$Licence" "TermsDesk$Licence" "demands" "J") ∈ lw_all := lw_g (lw_at lw_m3 127 rfl) rfl
theorem q676 : (Jvm.Cond.soleField "TermsDesk$Licence" "demands") ∈ lw_all := lw_g (lw_at lw_m3 128 rfl) rfl
theorem q677 : (Jvm.Cond.superclass "TermsDesk$Licence" "java/lang/Object") ∈ lw_all := lw_g (lw_at lw_m3 129 rfl) rfl
theorem q739 : (Jvm.Cond.selects "TermsDesk$Licence" ({ cls := "java/lang/Object", name := "getClass", desc := "()Ljava/lang/Class;" } : Jvm.MethodName) ({ cls := "java/lang/Object", name := "getClass", desc := "()Ljava/lang/Class;" } : Jvm.MethodName)) ∈ lw_all := lw_g (lw_at lw_m3 191 rfl) rfl
theorem q967 : (Jvm.Cond.instanceMethod ({ cls := "TermsDesk$Licence", name := "demand", desc := "(II)I" } : Jvm.MethodName)) ∈ lw_all := lw_g (lw_at lw_m4 179 rfl) rfl
theorem q968 : (Jvm.Cond.selects "TermsDesk$Licence" ({ cls := "TermsDesk$Licence", name := "demand", desc := "(II)I" } : Jvm.MethodName) ({ cls := "TermsDesk$Licence", name := "demand", desc := "(II)I" } : Jvm.MethodName)) ∈ lw_all := lw_g (lw_at lw_m4 180 rfl) rfl
theorem q969 : (Jvm.Cond.code ({ cls := "TermsDesk$Licence", name := "demand", desc := "(II)I" } : Jvm.MethodName) prog_8_method_3_code (4 : Nat) (Option.some Jvm.ClassFile.FieldType.int)) ∈ lw_all := lw_g (lw_at lw_m4 181 rfl) rfl
theorem q970 : (Jvm.Cond.methodLinkNest "TermsDesk$Licence" (28 : Nat) ({ cls := "TermsDesk", name := "dutiesOf", desc := "(JI)I" } : Jvm.MethodName) "TermsDesk") ∈ lw_tbl := lw_at lw_m4 182 rfl
theorem q971 : (Jvm.Cond.constantLong "TermsDesk$Licence" (32 : Nat) (1023 : Int64)) ∈ lw_all := lw_g (lw_at lw_m4 183 rfl) rfl
theorem q972 : (Jvm.Cond.constantLong "TermsDesk$Licence" (34 : Nat) (-1 : Int64)) ∈ lw_all := lw_g (lw_at lw_m4 184 rfl) rfl
theorem q2491 : (Jvm.Cond.castable "TermsDesk$Licence" "java/lang/Object") ∈ lw_tbl := lw_at lw_m11 23 rfl
theorem in_X5 : ∀ w ∈ wsX50, w ∈ lw_all := lw_in wsX50 [669, 671, 673, 675] (by decide +kernel) (by decide +kernel)
/-! TermsDesk$Source -/
set_option maxRecDepth 100000
def RX6 : String := "TermsDesk$Source"
def TX6 : u_T := fun k => match k with
  | 0 => ("TermsDesk$Source", "first", "I", true)
  | 1 => ("TermsDesk$Source", "second", "I", true)
  | 2 => ("TermsDesk$Source", "size", "I", true)
  | _ => ("TermsDesk$Source", "takesSecond", "Z", false)
def tyX6 : Nat → FieldType := fun k => match k with
  | 0 => .int
  | 1 => .int
  | 2 => .int
  | _ => .boolean
abbrev wsX60 : List Cond := u_ws RX6 TX6 4
theorem nmX6 : ∀ a, a < 4 → ∀ b, b < 4 → a ≠ b → (TX6 a).2.1 ≠ (TX6 b).2.1 := by decide +kernel
theorem tyX6_ok : ∀ k, k < 4 → parseFieldDescriptor (TX6 k).2.2.1 = some (tyX6 k) := by decide +kernel
abbrev cX6_licence : ByteArray := prog_13_method_4_code
def yX6_licence : MethodName := ⟨RX6, "licence", "()I"⟩
def dkwX6_licence_0 : List UInt8 := [42, 180, 0, 24, 153, 0, 10, 42, 180, 0, 15, 167, 0, 7, 42, 180, 0, 9, 172]
abbrev dktX6_licence_0 : List UInt8 := dkwX6_licence_0 ++ []
theorem dksX6_licence_0 : cX6_licence.data.toList.drop 0 = dktX6_licence_0 := by decide +kernel
theorem dX6_licence_0 : decode cX6_licence 0 = .ok (.aload_n 0, 1) := dk_42 (dk_at dksX6_licence_0 0 rfl rfl)
theorem dX6_licence_1 : decode cX6_licence 1 = .ok (.getfield 24, 3) := dk_180 0 24 (dk_at dksX6_licence_0 1 rfl rfl)
theorem dX6_licence_4 : decode cX6_licence 4 = .ok (.ifCond .eq 10, 3) := dk_153 0 10 (dk_at dksX6_licence_0 4 rfl rfl)
theorem dX6_licence_7 : decode cX6_licence 7 = .ok (.aload_n 0, 1) := dk_42 (dk_at dksX6_licence_0 7 rfl rfl)
theorem dX6_licence_8 : decode cX6_licence 8 = .ok (.getfield 15, 3) := dk_180 0 15 (dk_at dksX6_licence_0 8 rfl rfl)
theorem dX6_licence_11 : decode cX6_licence 11 = .ok (.goto 7, 3) := dk_167 0 7 (dk_at dksX6_licence_0 11 rfl rfl)
theorem dX6_licence_14 : decode cX6_licence 14 = .ok (.aload_n 0, 1) := dk_42 (dk_at dksX6_licence_0 14 rfl rfl)
theorem dX6_licence_15 : decode cX6_licence 15 = .ok (.getfield 9, 3) := dk_180 0 9 (dk_at dksX6_licence_0 15 rfl rfl)
theorem dX6_licence_18 : decode cX6_licence 18 = .ok (.ireturn, 1) := dk_172 (dk_at dksX6_licence_0 18 rfl rfl)
abbrev cX6_copy : ByteArray := prog_13_method_2_code
def yX6_copy : MethodName := ⟨RX6, "copy", "()LTermsDesk$Source;"⟩
def dkwX6_copy_1 : List UInt8 := [180, 0, 24, 181, 0, 24, 43, 176]
abbrev dktX6_copy_1 : List UInt8 := dkwX6_copy_1 ++ []
def dkwX6_copy_0 : List UInt8 := [187, 0, 10, 89, 42, 180, 0, 9, 42, 180, 0, 15, 42, 180, 0, 18, 183, 0, 21, 76, 43, 42]
abbrev dktX6_copy_0 : List UInt8 := dkwX6_copy_0 ++ dktX6_copy_1
theorem dksX6_copy_0 : cX6_copy.data.toList.drop 0 = dktX6_copy_0 := by decide +kernel
theorem dksX6_copy_1 : cX6_copy.data.toList.drop 22 = dktX6_copy_1 := dk_seg dksX6_copy_0 22 rfl rfl
theorem dX6_copy_0 : decode cX6_copy 0 = .ok (.new 10, 3) := dk_187 0 10 (dk_at dksX6_copy_0 0 rfl rfl)
theorem dX6_copy_3 : decode cX6_copy 3 = .ok (.dup, 1) := dk_89 (dk_at dksX6_copy_0 3 rfl rfl)
theorem dX6_copy_4 : decode cX6_copy 4 = .ok (.aload_n 0, 1) := dk_42 (dk_at dksX6_copy_0 4 rfl rfl)
theorem dX6_copy_5 : decode cX6_copy 5 = .ok (.getfield 9, 3) := dk_180 0 9 (dk_at dksX6_copy_0 5 rfl rfl)
theorem dX6_copy_8 : decode cX6_copy 8 = .ok (.aload_n 0, 1) := dk_42 (dk_at dksX6_copy_0 8 rfl rfl)
theorem dX6_copy_9 : decode cX6_copy 9 = .ok (.getfield 15, 3) := dk_180 0 15 (dk_at dksX6_copy_0 9 rfl rfl)
theorem dX6_copy_12 : decode cX6_copy 12 = .ok (.aload_n 0, 1) := dk_42 (dk_at dksX6_copy_0 12 rfl rfl)
theorem dX6_copy_13 : decode cX6_copy 13 = .ok (.getfield 18, 3) := dk_180 0 18 (dk_at dksX6_copy_0 13 rfl rfl)
theorem dX6_copy_16 : decode cX6_copy 16 = .ok (.invokespecial 21, 3) := dk_183 0 21 (dk_at dksX6_copy_0 16 rfl rfl)
theorem dX6_copy_19 : decode cX6_copy 19 = .ok (.astore_n 1, 1) := dk_76 (dk_at dksX6_copy_0 19 rfl rfl)
theorem dX6_copy_20 : decode cX6_copy 20 = .ok (.aload_n 1, 1) := dk_43 (dk_at dksX6_copy_0 20 rfl rfl)
theorem dX6_copy_21 : decode cX6_copy 21 = .ok (.aload_n 0, 1) := dk_42 (dk_at dksX6_copy_0 21 rfl rfl)
theorem dX6_copy_22 : decode cX6_copy 22 = .ok (.getfield 24, 3) := dk_180 0 24 (dk_at dksX6_copy_1 0 rfl rfl)
theorem dX6_copy_25 : decode cX6_copy 25 = .ok (.putfield 24, 3) := dk_181 0 24 (dk_at dksX6_copy_1 3 rfl rfl)
theorem dX6_copy_28 : decode cX6_copy 28 = .ok (.aload_n 1, 1) := dk_43 (dk_at dksX6_copy_1 6 rfl rfl)
theorem dX6_copy_29 : decode cX6_copy 29 = .ok (.areturn, 1) := dk_176 (dk_at dksX6_copy_1 7 rfl rfl)
abbrev cX6_init : ByteArray := prog_13_method_1_code
def yX6_init : MethodName := ⟨RX6, "<init>", "(III)V"⟩
def dkwX6_init_0 : List UInt8 := [42, 183, 0, 3, 42, 27, 181, 0, 9, 42, 28, 181, 0, 15, 42, 29, 181, 0, 18, 177]
abbrev dktX6_init_0 : List UInt8 := dkwX6_init_0 ++ []
theorem dksX6_init_0 : cX6_init.data.toList.drop 0 = dktX6_init_0 := by decide +kernel
theorem dX6_init_0 : decode cX6_init 0 = .ok (.aload_n 0, 1) := dk_42 (dk_at dksX6_init_0 0 rfl rfl)
theorem dX6_init_1 : decode cX6_init 1 = .ok (.invokespecial 3, 3) := dk_183 0 3 (dk_at dksX6_init_0 1 rfl rfl)
theorem dX6_init_4 : decode cX6_init 4 = .ok (.aload_n 0, 1) := dk_42 (dk_at dksX6_init_0 4 rfl rfl)
theorem dX6_init_5 : decode cX6_init 5 = .ok (.iload_n 1, 1) := dk_27 (dk_at dksX6_init_0 5 rfl rfl)
theorem dX6_init_6 : decode cX6_init 6 = .ok (.putfield 9, 3) := dk_181 0 9 (dk_at dksX6_init_0 6 rfl rfl)
theorem dX6_init_9 : decode cX6_init 9 = .ok (.aload_n 0, 1) := dk_42 (dk_at dksX6_init_0 9 rfl rfl)
theorem dX6_init_10 : decode cX6_init 10 = .ok (.iload_n 2, 1) := dk_28 (dk_at dksX6_init_0 10 rfl rfl)
theorem dX6_init_11 : decode cX6_init 11 = .ok (.putfield 15, 3) := dk_181 0 15 (dk_at dksX6_init_0 11 rfl rfl)
theorem dX6_init_14 : decode cX6_init 14 = .ok (.aload_n 0, 1) := dk_42 (dk_at dksX6_init_0 14 rfl rfl)
theorem dX6_init_15 : decode cX6_init 15 = .ok (.iload_n 3, 1) := dk_29 (dk_at dksX6_init_0 15 rfl rfl)
theorem dX6_init_16 : decode cX6_init 16 = .ok (.putfield 18, 3) := dk_181 0 18 (dk_at dksX6_init_0 16 rfl rfl)
theorem dX6_init_19 : decode cX6_init 19 = .ok (.return_, 1) := dk_177 (dk_at dksX6_init_0 19 rfl rfl)
abbrev cX6_hasChoice : ByteArray := prog_13_method_3_code
def yX6_hasChoice : MethodName := ⟨RX6, "hasChoice", "()Z"⟩
def dkwX6_hasChoice_0 : List UInt8 := [42, 180, 0, 15, 2, 159, 0, 7, 4, 167, 0, 4, 3, 172]
abbrev dktX6_hasChoice_0 : List UInt8 := dkwX6_hasChoice_0 ++ []
theorem dksX6_hasChoice_0 : cX6_hasChoice.data.toList.drop 0 = dktX6_hasChoice_0 := by decide +kernel
theorem dX6_hasChoice_0 : decode cX6_hasChoice 0 = .ok (.aload_n 0, 1) := dk_42 (dk_at dksX6_hasChoice_0 0 rfl rfl)
theorem dX6_hasChoice_1 : decode cX6_hasChoice 1 = .ok (.getfield 15, 3) := dk_180 0 15 (dk_at dksX6_hasChoice_0 1 rfl rfl)
theorem dX6_hasChoice_4 : decode cX6_hasChoice 4 = .ok (.iconst (-1), 1) := dk_2 (dk_at dksX6_hasChoice_0 4 rfl rfl)
theorem dX6_hasChoice_5 : decode cX6_hasChoice 5 = .ok (.if_icmp .eq 7, 3) := dk_159 0 7 (dk_at dksX6_hasChoice_0 5 rfl rfl)
theorem dX6_hasChoice_8 : decode cX6_hasChoice 8 = .ok (.iconst 1, 1) := dk_4 (dk_at dksX6_hasChoice_0 8 rfl rfl)
theorem dX6_hasChoice_9 : decode cX6_hasChoice 9 = .ok (.goto 4, 3) := dk_167 0 4 (dk_at dksX6_hasChoice_0 9 rfl rfl)
theorem dX6_hasChoice_12 : decode cX6_hasChoice 12 = .ok (.iconst 0, 1) := dk_3 (dk_at dksX6_hasChoice_0 12 rfl rfl)
theorem dX6_hasChoice_13 : decode cX6_hasChoice 13 = .ok (.ireturn, 1) := dk_172 (dk_at dksX6_hasChoice_0 13 rfl rfl)
theorem q93 : (Jvm.Cond.initialized "TermsDesk$Source") ∈ lw_all := lw_g (lw_at lw_m1 25 rfl) rfl
theorem q515 : (Jvm.Cond.instanceMethod ({ cls := "TermsDesk$Source", name := "licence", desc := "()I" } : Jvm.MethodName)) ∈ lw_all := lw_g (lw_at lw_m2 207 rfl) rfl
theorem q516 : (Jvm.Cond.selects "TermsDesk$Source" ({ cls := "TermsDesk$Source", name := "licence", desc := "()I" } : Jvm.MethodName) ({ cls := "TermsDesk$Source", name := "licence", desc := "()I" } : Jvm.MethodName)) ∈ lw_all := lw_g (lw_at lw_m2 208 rfl) rfl
theorem q517 : (Jvm.Cond.code ({ cls := "TermsDesk$Source", name := "licence", desc := "()I" } : Jvm.MethodName) prog_13_method_4_code (1 : Nat) (Option.some Jvm.ClassFile.FieldType.int)) ∈ lw_all := lw_g (lw_at lw_m2 209 rfl) rfl
theorem q744 : (Jvm.Cond.selects "TermsDesk$Source" ({ cls := "java/lang/Object", name := "getClass", desc := "()Ljava/lang/Class;" } : Jvm.MethodName) ({ cls := "java/lang/Object", name := "getClass", desc := "()Ljava/lang/Class;" } : Jvm.MethodName)) ∈ lw_all := lw_g (lw_at lw_m3 196 rfl) rfl
theorem q777 : (Jvm.Cond.instanceMethod ({ cls := "TermsDesk$Source", name := "copy", desc := "()LTermsDesk$Source;" } : Jvm.MethodName)) ∈ lw_all := lw_g (lw_at lw_m3 229 rfl) rfl
theorem q778 : (Jvm.Cond.selects "TermsDesk$Source" ({ cls := "TermsDesk$Source", name := "copy", desc := "()LTermsDesk$Source;" } : Jvm.MethodName) ({ cls := "TermsDesk$Source", name := "copy", desc := "()LTermsDesk$Source;" } : Jvm.MethodName)) ∈ lw_all := lw_g (lw_at lw_m3 230 rfl) rfl
theorem q779 : (Jvm.Cond.code ({ cls := "TermsDesk$Source", name := "copy", desc := "()LTermsDesk$Source;" } : Jvm.MethodName) prog_13_method_2_code (2 : Nat) (Option.some (Jvm.ClassFile.FieldType.object "TermsDesk$Source"))) ∈ lw_all := lw_g (lw_at lw_m3 231 rfl) rfl
theorem q780 : (Jvm.Cond.classLink "TermsDesk$Source" (10 : Nat) "TermsDesk$Source") ∈ lw_all := lw_g (lw_at lw_m3 232 rfl) rfl
theorem q781 : (Jvm.Cond.instantiable "TermsDesk$Source" (4 : Nat)) ∈ lw_all := lw_g (lw_at lw_m3 233 rfl) rfl
theorem q782 : (Jvm.Cond.methodLink "TermsDesk$Source" (21 : Nat) ({ cls := "TermsDesk$Source", name := "<init>", desc := "(III)V" } : Jvm.MethodName)) ∈ lw_all := lw_g (lw_at lw_m3 234 rfl) rfl
theorem q783 : (Jvm.Cond.instanceMethod ({ cls := "TermsDesk$Source", name := "<init>", desc := "(III)V" } : Jvm.MethodName)) ∈ lw_all := lw_g (lw_at lw_m3 235 rfl) rfl
theorem q784 : (Jvm.Cond.code ({ cls := "TermsDesk$Source", name := "<init>", desc := "(III)V" } : Jvm.MethodName) prog_13_method_1_code (4 : Nat) (Option.none : Option Jvm.ClassFile.FieldType)) ∈ lw_all := lw_g (lw_at lw_m3 236 rfl) rfl
theorem q785 : (Jvm.Cond.methodLink "TermsDesk$Source" (3 : Nat) ({ cls := "java/lang/Object", name := "<init>", desc := "()V" } : Jvm.MethodName)) ∈ lw_all := lw_g (lw_at lw_m3 237 rfl) rfl
theorem q786 : (Jvm.Cond.fieldLink "TermsDesk$Source" (9 : Nat) "TermsDesk$Source" "first" "I") ∈ lw_all := lw_g (lw_at lw_m3 238 rfl) rfl
theorem q788 : (Jvm.Cond.fieldLink "TermsDesk$Source" (15 : Nat) "TermsDesk$Source" "second" "I") ∈ lw_all := lw_g (lw_at lw_m4 0 rfl) rfl
theorem q790 : (Jvm.Cond.fieldLink "TermsDesk$Source" (18 : Nat) "TermsDesk$Source" "size" "I") ∈ lw_all := lw_g (lw_at lw_m4 2 rfl) rfl
theorem q793 : (Jvm.Cond.fieldLink "TermsDesk$Source" (24 : Nat) "TermsDesk$Source" "takesSecond" "Z") ∈ lw_all := lw_g (lw_at lw_m4 5 rfl) rfl
theorem q795 : (Jvm.Cond.laysFinal "TermsDesk$Source" "TermsDesk$Source" "first" "I") ∈ lw_all := lw_g (lw_at lw_m4 7 rfl) rfl
theorem q796 : (Jvm.Cond.soleField "TermsDesk$Source" "first") ∈ lw_all := lw_g (lw_at lw_m4 8 rfl) rfl
theorem q797 : (Jvm.Cond.laysFinal "TermsDesk$Source" "TermsDesk$Source" "second" "I") ∈ lw_all := lw_g (lw_at lw_m4 9 rfl) rfl
theorem q798 : (Jvm.Cond.soleField "TermsDesk$Source" "second") ∈ lw_all := lw_g (lw_at lw_m4 10 rfl) rfl
theorem q799 : (Jvm.Cond.laysFinal "TermsDesk$Source" "TermsDesk$Source" "size" "I") ∈ lw_all := lw_g (lw_at lw_m4 11 rfl) rfl
theorem q800 : (Jvm.Cond.soleField "TermsDesk$Source" "size") ∈ lw_all := lw_g (lw_at lw_m4 12 rfl) rfl
theorem q801 : (Jvm.Cond.lays "TermsDesk$Source" "TermsDesk$Source" "takesSecond" "Z") ∈ lw_all := lw_g (lw_at lw_m4 13 rfl) rfl
theorem q802 : (Jvm.Cond.soleField "TermsDesk$Source" "takesSecond") ∈ lw_all := lw_g (lw_at lw_m4 14 rfl) rfl
theorem q803 : (Jvm.Cond.superclass "TermsDesk$Source" "java/lang/Object") ∈ lw_all := lw_g (lw_at lw_m4 15 rfl) rfl
theorem q1003 : (Jvm.Cond.instanceMethod ({ cls := "TermsDesk$Source", name := "hasChoice", desc := "()Z" } : Jvm.MethodName)) ∈ lw_all := lw_g (lw_at lw_m4 215 rfl) rfl
theorem q1004 : (Jvm.Cond.selects "TermsDesk$Source" ({ cls := "TermsDesk$Source", name := "hasChoice", desc := "()Z" } : Jvm.MethodName) ({ cls := "TermsDesk$Source", name := "hasChoice", desc := "()Z" } : Jvm.MethodName)) ∈ lw_all := lw_g (lw_at lw_m4 216 rfl) rfl
theorem q1005 : (Jvm.Cond.code ({ cls := "TermsDesk$Source", name := "hasChoice", desc := "()Z" } : Jvm.MethodName) prog_13_method_3_code (1 : Nat) (Option.some Jvm.ClassFile.FieldType.boolean)) ∈ lw_all := lw_g (lw_at lw_m4 217 rfl) rfl
theorem q2493 : (Jvm.Cond.castable "TermsDesk$Source" "java/lang/Object") ∈ lw_tbl := lw_at lw_m11 25 rfl
theorem in_X6 : ∀ w ∈ wsX60, w ∈ lw_all := lw_in wsX60 [795, 797, 799, 801] (by decide +kernel) (by decide +kernel)
/-! TermsDesk$Work -/
set_option maxRecDepth 100000
def RX7 : String := "TermsDesk$Work"
def TX7 : u_T := fun k => match k with
  | 0 => ("TermsDesk$Work", "files", "I", false)
  | 1 => ("TermsDesk$Work", "links", "I", false)
  | 2 => ("TermsDesk$Work", "shipped", "I", false)
  | _ => ("TermsDesk$Work", "notice", "Ljava/lang/String;", false)
def tyX7 : Nat → FieldType := fun k => match k with
  | 0 => .int
  | 1 => .int
  | 2 => .int
  | _ => .object "java/lang/String"
abbrev wsX70 : List Cond := u_ws RX7 TX7 4
theorem nmX7 : ∀ a, a < 4 → ∀ b, b < 4 → a ≠ b → (TX7 a).2.1 ≠ (TX7 b).2.1 := by decide +kernel
theorem tyX7_ok : ∀ k, k < 4 → parseFieldDescriptor (TX7 k).2.2.1 = some (tyX7 k) := by decide +kernel
abbrev cX7_copy : ByteArray := prog_15_method_2_code
def yX7_copy : MethodName := ⟨RX7, "copy", "()LTermsDesk$Work;"⟩
def dkwX7_copy_1 : List UInt8 := [43, 42, 180, 0, 23, 181, 0, 23, 43, 42, 180, 0, 9, 181, 0, 9, 43, 176]
abbrev dktX7_copy_1 : List UInt8 := dkwX7_copy_1 ++ []
def dkwX7_copy_0 : List UInt8 := [187, 0, 10, 89, 183, 0, 15, 76, 43, 42, 180, 0, 16, 181, 0, 16, 43, 42, 180, 0, 20, 181, 0, 20]
abbrev dktX7_copy_0 : List UInt8 := dkwX7_copy_0 ++ dktX7_copy_1
theorem dksX7_copy_0 : cX7_copy.data.toList.drop 0 = dktX7_copy_0 := by decide +kernel
theorem dksX7_copy_1 : cX7_copy.data.toList.drop 24 = dktX7_copy_1 := dk_seg dksX7_copy_0 24 rfl rfl
theorem dX7_copy_0 : decode cX7_copy 0 = .ok (.new 10, 3) := dk_187 0 10 (dk_at dksX7_copy_0 0 rfl rfl)
theorem dX7_copy_3 : decode cX7_copy 3 = .ok (.dup, 1) := dk_89 (dk_at dksX7_copy_0 3 rfl rfl)
theorem dX7_copy_4 : decode cX7_copy 4 = .ok (.invokespecial 15, 3) := dk_183 0 15 (dk_at dksX7_copy_0 4 rfl rfl)
theorem dX7_copy_7 : decode cX7_copy 7 = .ok (.astore_n 1, 1) := dk_76 (dk_at dksX7_copy_0 7 rfl rfl)
theorem dX7_copy_8 : decode cX7_copy 8 = .ok (.aload_n 1, 1) := dk_43 (dk_at dksX7_copy_0 8 rfl rfl)
theorem dX7_copy_9 : decode cX7_copy 9 = .ok (.aload_n 0, 1) := dk_42 (dk_at dksX7_copy_0 9 rfl rfl)
theorem dX7_copy_10 : decode cX7_copy 10 = .ok (.getfield 16, 3) := dk_180 0 16 (dk_at dksX7_copy_0 10 rfl rfl)
theorem dX7_copy_13 : decode cX7_copy 13 = .ok (.putfield 16, 3) := dk_181 0 16 (dk_at dksX7_copy_0 13 rfl rfl)
theorem dX7_copy_16 : decode cX7_copy 16 = .ok (.aload_n 1, 1) := dk_43 (dk_at dksX7_copy_0 16 rfl rfl)
theorem dX7_copy_17 : decode cX7_copy 17 = .ok (.aload_n 0, 1) := dk_42 (dk_at dksX7_copy_0 17 rfl rfl)
theorem dX7_copy_18 : decode cX7_copy 18 = .ok (.getfield 20, 3) := dk_180 0 20 (dk_at dksX7_copy_0 18 rfl rfl)
theorem dX7_copy_21 : decode cX7_copy 21 = .ok (.putfield 20, 3) := dk_181 0 20 (dk_at dksX7_copy_0 21 rfl rfl)
theorem dX7_copy_24 : decode cX7_copy 24 = .ok (.aload_n 1, 1) := dk_43 (dk_at dksX7_copy_1 0 rfl rfl)
theorem dX7_copy_25 : decode cX7_copy 25 = .ok (.aload_n 0, 1) := dk_42 (dk_at dksX7_copy_1 1 rfl rfl)
theorem dX7_copy_26 : decode cX7_copy 26 = .ok (.getfield 23, 3) := dk_180 0 23 (dk_at dksX7_copy_1 2 rfl rfl)
theorem dX7_copy_29 : decode cX7_copy 29 = .ok (.putfield 23, 3) := dk_181 0 23 (dk_at dksX7_copy_1 5 rfl rfl)
theorem dX7_copy_32 : decode cX7_copy 32 = .ok (.aload_n 1, 1) := dk_43 (dk_at dksX7_copy_1 8 rfl rfl)
theorem dX7_copy_33 : decode cX7_copy 33 = .ok (.aload_n 0, 1) := dk_42 (dk_at dksX7_copy_1 9 rfl rfl)
theorem dX7_copy_34 : decode cX7_copy 34 = .ok (.getfield 9, 3) := dk_180 0 9 (dk_at dksX7_copy_1 10 rfl rfl)
theorem dX7_copy_37 : decode cX7_copy 37 = .ok (.putfield 9, 3) := dk_181 0 9 (dk_at dksX7_copy_1 13 rfl rfl)
theorem dX7_copy_40 : decode cX7_copy 40 = .ok (.aload_n 1, 1) := dk_43 (dk_at dksX7_copy_1 16 rfl rfl)
theorem dX7_copy_41 : decode cX7_copy 41 = .ok (.areturn, 1) := dk_176 (dk_at dksX7_copy_1 17 rfl rfl)
abbrev cX7_init : ByteArray := prog_15_method_1_code
def yX7_init : MethodName := ⟨RX7, "<init>", "()V"⟩
def dkwX7_init_0 : List UInt8 := [42, 183, 0, 1, 42, 18, 7, 181, 0, 9, 177]
abbrev dktX7_init_0 : List UInt8 := dkwX7_init_0 ++ []
theorem dksX7_init_0 : cX7_init.data.toList.drop 0 = dktX7_init_0 := by decide +kernel
theorem dX7_init_0 : decode cX7_init 0 = .ok (.aload_n 0, 1) := dk_42 (dk_at dksX7_init_0 0 rfl rfl)
theorem dX7_init_1 : decode cX7_init 1 = .ok (.invokespecial 1, 3) := dk_183 0 1 (dk_at dksX7_init_0 1 rfl rfl)
theorem dX7_init_4 : decode cX7_init 4 = .ok (.aload_n 0, 1) := dk_42 (dk_at dksX7_init_0 4 rfl rfl)
theorem dX7_init_5 : decode cX7_init 5 = .ok (.ldc 7, 2) := dk_18 7 (dk_at dksX7_init_0 5 rfl rfl)
theorem dX7_init_7 : decode cX7_init 7 = .ok (.putfield 9, 3) := dk_181 0 9 (dk_at dksX7_init_0 7 rfl rfl)
theorem dX7_init_10 : decode cX7_init 10 = .ok (.return_, 1) := dk_177 (dk_at dksX7_init_0 10 rfl rfl)
theorem q94 : (Jvm.Cond.initialized "TermsDesk$Work") ∈ lw_all := lw_g (lw_at lw_m1 26 rfl) rfl
theorem q746 : (Jvm.Cond.selects "TermsDesk$Work" ({ cls := "java/lang/Object", name := "getClass", desc := "()Ljava/lang/Class;" } : Jvm.MethodName) ({ cls := "java/lang/Object", name := "getClass", desc := "()Ljava/lang/Class;" } : Jvm.MethodName)) ∈ lw_all := lw_g (lw_at lw_m3 198 rfl) rfl
theorem q805 : (Jvm.Cond.instanceMethod ({ cls := "TermsDesk$Work", name := "copy", desc := "()LTermsDesk$Work;" } : Jvm.MethodName)) ∈ lw_all := lw_g (lw_at lw_m4 17 rfl) rfl
theorem q806 : (Jvm.Cond.selects "TermsDesk$Work" ({ cls := "TermsDesk$Work", name := "copy", desc := "()LTermsDesk$Work;" } : Jvm.MethodName) ({ cls := "TermsDesk$Work", name := "copy", desc := "()LTermsDesk$Work;" } : Jvm.MethodName)) ∈ lw_all := lw_g (lw_at lw_m4 18 rfl) rfl
theorem q807 : (Jvm.Cond.code ({ cls := "TermsDesk$Work", name := "copy", desc := "()LTermsDesk$Work;" } : Jvm.MethodName) prog_15_method_2_code (2 : Nat) (Option.some (Jvm.ClassFile.FieldType.object "TermsDesk$Work"))) ∈ lw_all := lw_g (lw_at lw_m4 19 rfl) rfl
theorem q808 : (Jvm.Cond.classLink "TermsDesk$Work" (10 : Nat) "TermsDesk$Work") ∈ lw_all := lw_g (lw_at lw_m4 20 rfl) rfl
theorem q809 : (Jvm.Cond.instantiable "TermsDesk$Work" (4 : Nat)) ∈ lw_all := lw_g (lw_at lw_m4 21 rfl) rfl
theorem q810 : (Jvm.Cond.methodLink "TermsDesk$Work" (15 : Nat) ({ cls := "TermsDesk$Work", name := "<init>", desc := "()V" } : Jvm.MethodName)) ∈ lw_all := lw_g (lw_at lw_m4 22 rfl) rfl
theorem q811 : (Jvm.Cond.instanceMethod ({ cls := "TermsDesk$Work", name := "<init>", desc := "()V" } : Jvm.MethodName)) ∈ lw_all := lw_g (lw_at lw_m4 23 rfl) rfl
theorem q812 : (Jvm.Cond.code ({ cls := "TermsDesk$Work", name := "<init>", desc := "()V" } : Jvm.MethodName) prog_15_method_1_code (1 : Nat) (Option.none : Option Jvm.ClassFile.FieldType)) ∈ lw_all := lw_g (lw_at lw_m4 24 rfl) rfl
theorem q813 : (Jvm.Cond.methodLink "TermsDesk$Work" (1 : Nat) ({ cls := "java/lang/Object", name := "<init>", desc := "()V" } : Jvm.MethodName)) ∈ lw_all := lw_g (lw_at lw_m4 25 rfl) rfl
theorem q814 : (Jvm.Cond.stringRef "TermsDesk$Work" (7 : Nat) "") ∈ lw_tbl := lw_at lw_m4 26 rfl
theorem q815 : (Jvm.Cond.fieldLink "TermsDesk$Work" (16 : Nat) "TermsDesk$Work" "files" "I") ∈ lw_all := lw_g (lw_at lw_m4 27 rfl) rfl
theorem q818 : (Jvm.Cond.fieldLink "TermsDesk$Work" (20 : Nat) "TermsDesk$Work" "links" "I") ∈ lw_all := lw_g (lw_at lw_m4 30 rfl) rfl
theorem q821 : (Jvm.Cond.fieldLink "TermsDesk$Work" (23 : Nat) "TermsDesk$Work" "shipped" "I") ∈ lw_all := lw_g (lw_at lw_m4 33 rfl) rfl
theorem q824 : (Jvm.Cond.fieldLink "TermsDesk$Work" (9 : Nat) "TermsDesk$Work" "notice" "Ljava/lang/String;") ∈ lw_all := lw_g (lw_at lw_m4 36 rfl) rfl
theorem q827 : (Jvm.Cond.lays "TermsDesk$Work" "TermsDesk$Work" "files" "I") ∈ lw_all := lw_g (lw_at lw_m4 39 rfl) rfl
theorem q828 : (Jvm.Cond.soleField "TermsDesk$Work" "files") ∈ lw_all := lw_g (lw_at lw_m4 40 rfl) rfl
theorem q829 : (Jvm.Cond.lays "TermsDesk$Work" "TermsDesk$Work" "links" "I") ∈ lw_all := lw_g (lw_at lw_m4 41 rfl) rfl
theorem q830 : (Jvm.Cond.soleField "TermsDesk$Work" "links") ∈ lw_all := lw_g (lw_at lw_m4 42 rfl) rfl
theorem q831 : (Jvm.Cond.lays "TermsDesk$Work" "TermsDesk$Work" "shipped" "I") ∈ lw_all := lw_g (lw_at lw_m4 43 rfl) rfl
theorem q832 : (Jvm.Cond.soleField "TermsDesk$Work" "shipped") ∈ lw_all := lw_g (lw_at lw_m4 44 rfl) rfl
theorem q833 : (Jvm.Cond.lays "TermsDesk$Work" "TermsDesk$Work" "notice" "Ljava/lang/String;") ∈ lw_all := lw_g (lw_at lw_m4 45 rfl) rfl
theorem q834 : (Jvm.Cond.soleField "TermsDesk$Work" "notice") ∈ lw_all := lw_g (lw_at lw_m4 46 rfl) rfl
theorem q835 : (Jvm.Cond.superclass "TermsDesk$Work" "java/lang/Object") ∈ lw_all := lw_g (lw_at lw_m4 47 rfl) rfl
theorem q2494 : (Jvm.Cond.castable "TermsDesk$Work" "java/lang/Object") ∈ lw_tbl := lw_at lw_m11 26 rfl
theorem in_X7 : ∀ w ∈ wsX70, w ∈ lw_all := lw_in wsX70 [827, 829, 831, 833] (by decide +kernel) (by decide +kernel)
/-! TermsDesk$Deed -/
set_option maxRecDepth 100000
def RX8 : String := "TermsDesk$Deed"
def TX8 : u_T := fun k => match k with
  | 0 => ("TermsDesk$Deed", "desk", "LTermsDesk$Desk;", true)
  | 1 => ("TermsDesk$Deed", "act", "I", true)
  | 2 => ("TermsDesk$Deed", "search", "LTermsDesk$Search;", true)
  | 3 => ("TermsDesk$Deed", "near", "I", false)
  | _ => ("TermsDesk$Deed", "far", "I", false)
def tyX8 : Nat → FieldType := fun k => match k with
  | 0 => .object "TermsDesk$Desk"
  | 1 => .int
  | 2 => .object "TermsDesk$Search"
  | 3 => .int
  | _ => .int
abbrev wsX80 : List Cond := u_ws RX8 TX8 5
theorem nmX8 : ∀ a, a < 5 → ∀ b, b < 5 → a ≠ b → (TX8 a).2.1 ≠ (TX8 b).2.1 := by decide +kernel
theorem tyX8_ok : ∀ k, k < 5 → parseFieldDescriptor (TX8 k).2.2.1 = some (tyX8 k) := by decide +kernel
abbrev cX8_init : ByteArray := prog_5_method_1_code
def yX8_init : MethodName := ⟨RX8, "<init>", "(LTermsDesk$Desk;III)V"⟩
def dkwX8_init_1 : List UInt8 := [181, 0, 22, 42, 29, 181, 0, 26, 42, 21, 4, 181, 0, 29, 177]
abbrev dktX8_init_1 : List UInt8 := dkwX8_init_1 ++ []
def dkwX8_init_0 : List UInt8 := [42, 183, 0, 3, 42, 187, 0, 9, 89, 183, 0, 11, 181, 0, 12, 42, 43, 181, 0, 18, 42, 28]
abbrev dktX8_init_0 : List UInt8 := dkwX8_init_0 ++ dktX8_init_1
theorem dksX8_init_0 : cX8_init.data.toList.drop 0 = dktX8_init_0 := by decide +kernel
theorem dksX8_init_1 : cX8_init.data.toList.drop 22 = dktX8_init_1 := dk_seg dksX8_init_0 22 rfl rfl
theorem dX8_init_0 : decode cX8_init 0 = .ok (.aload_n 0, 1) := dk_42 (dk_at dksX8_init_0 0 rfl rfl)
theorem dX8_init_1 : decode cX8_init 1 = .ok (.invokespecial 3, 3) := dk_183 0 3 (dk_at dksX8_init_0 1 rfl rfl)
theorem dX8_init_4 : decode cX8_init 4 = .ok (.aload_n 0, 1) := dk_42 (dk_at dksX8_init_0 4 rfl rfl)
theorem dX8_init_5 : decode cX8_init 5 = .ok (.new 9, 3) := dk_187 0 9 (dk_at dksX8_init_0 5 rfl rfl)
theorem dX8_init_8 : decode cX8_init 8 = .ok (.dup, 1) := dk_89 (dk_at dksX8_init_0 8 rfl rfl)
theorem dX8_init_9 : decode cX8_init 9 = .ok (.invokespecial 11, 3) := dk_183 0 11 (dk_at dksX8_init_0 9 rfl rfl)
theorem dX8_init_12 : decode cX8_init 12 = .ok (.putfield 12, 3) := dk_181 0 12 (dk_at dksX8_init_0 12 rfl rfl)
theorem dX8_init_15 : decode cX8_init 15 = .ok (.aload_n 0, 1) := dk_42 (dk_at dksX8_init_0 15 rfl rfl)
theorem dX8_init_16 : decode cX8_init 16 = .ok (.aload_n 1, 1) := dk_43 (dk_at dksX8_init_0 16 rfl rfl)
theorem dX8_init_17 : decode cX8_init 17 = .ok (.putfield 18, 3) := dk_181 0 18 (dk_at dksX8_init_0 17 rfl rfl)
theorem dX8_init_20 : decode cX8_init 20 = .ok (.aload_n 0, 1) := dk_42 (dk_at dksX8_init_0 20 rfl rfl)
theorem dX8_init_21 : decode cX8_init 21 = .ok (.iload_n 2, 1) := dk_28 (dk_at dksX8_init_0 21 rfl rfl)
theorem dX8_init_22 : decode cX8_init 22 = .ok (.putfield 22, 3) := dk_181 0 22 (dk_at dksX8_init_1 0 rfl rfl)
theorem dX8_init_25 : decode cX8_init 25 = .ok (.aload_n 0, 1) := dk_42 (dk_at dksX8_init_1 3 rfl rfl)
theorem dX8_init_26 : decode cX8_init 26 = .ok (.iload_n 3, 1) := dk_29 (dk_at dksX8_init_1 4 rfl rfl)
theorem dX8_init_27 : decode cX8_init 27 = .ok (.putfield 26, 3) := dk_181 0 26 (dk_at dksX8_init_1 5 rfl rfl)
theorem dX8_init_30 : decode cX8_init 30 = .ok (.aload_n 0, 1) := dk_42 (dk_at dksX8_init_1 8 rfl rfl)
theorem dX8_init_31 : decode cX8_init 31 = .ok (.iload 4, 2) := dk_21 4 (dk_at dksX8_init_1 9 rfl rfl)
theorem dX8_init_33 : decode cX8_init 33 = .ok (.putfield 29, 3) := dk_181 0 29 (dk_at dksX8_init_1 11 rfl rfl)
theorem dX8_init_36 : decode cX8_init 36 = .ok (.return_, 1) := dk_177 (dk_at dksX8_init_1 14 rfl rfl)
abbrev cX8_least : ByteArray := prog_5_method_17_code
def yX8_least : MethodName := ⟨RX8, "least", "()I"⟩
def dkwX8_least_2 : List UInt8 := [160, 0, 12, 42, 2, 28, 182, 0, 147, 167, 0, 5, 21, 4, 62, 167, 255, 204, 29, 172]
abbrev dktX8_least_2 : List UInt8 := dkwX8_least_2 ++ []
def dkwX8_least_1 : List UInt8 := [28, 182, 0, 147, 54, 4, 28, 21, 4, 2, 160, 0, 7, 4, 167, 0, 4, 3, 96, 61, 21, 4, 2]
abbrev dktX8_least_1 : List UInt8 := dkwX8_least_1 ++ dktX8_least_2
def dkwX8_least_0 : List UInt8 := [42, 3, 182, 0, 140, 76, 3, 61, 3, 62, 43, 42, 29, 182, 0, 35, 182, 0, 144, 154, 0, 46, 42, 29]
abbrev dktX8_least_0 : List UInt8 := dkwX8_least_0 ++ dktX8_least_1
theorem dksX8_least_0 : cX8_least.data.toList.drop 0 = dktX8_least_0 := by decide +kernel
theorem dksX8_least_1 : cX8_least.data.toList.drop 24 = dktX8_least_1 := dk_seg dksX8_least_0 24 rfl rfl
theorem dksX8_least_2 : cX8_least.data.toList.drop 47 = dktX8_least_2 := dk_seg dksX8_least_1 23 rfl rfl
theorem dX8_least_0 : decode cX8_least 0 = .ok (.aload_n 0, 1) := dk_42 (dk_at dksX8_least_0 0 rfl rfl)
theorem dX8_least_1 : decode cX8_least 1 = .ok (.iconst 0, 1) := dk_3 (dk_at dksX8_least_0 1 rfl rfl)
theorem dX8_least_2 : decode cX8_least 2 = .ok (.invokevirtual 140, 3) := dk_182 0 140 (dk_at dksX8_least_0 2 rfl rfl)
theorem dX8_least_5 : decode cX8_least 5 = .ok (.astore_n 1, 1) := dk_76 (dk_at dksX8_least_0 5 rfl rfl)
theorem dX8_least_6 : decode cX8_least 6 = .ok (.iconst 0, 1) := dk_3 (dk_at dksX8_least_0 6 rfl rfl)
theorem dX8_least_7 : decode cX8_least 7 = .ok (.istore_n 2, 1) := dk_61 (dk_at dksX8_least_0 7 rfl rfl)
theorem dX8_least_8 : decode cX8_least 8 = .ok (.iconst 0, 1) := dk_3 (dk_at dksX8_least_0 8 rfl rfl)
theorem dX8_least_9 : decode cX8_least 9 = .ok (.istore_n 3, 1) := dk_62 (dk_at dksX8_least_0 9 rfl rfl)
theorem dX8_least_10 : decode cX8_least 10 = .ok (.aload_n 1, 1) := dk_43 (dk_at dksX8_least_0 10 rfl rfl)
theorem dX8_least_11 : decode cX8_least 11 = .ok (.aload_n 0, 1) := dk_42 (dk_at dksX8_least_0 11 rfl rfl)
theorem dX8_least_12 : decode cX8_least 12 = .ok (.iload_n 3, 1) := dk_29 (dk_at dksX8_least_0 12 rfl rfl)
theorem dX8_least_13 : decode cX8_least 13 = .ok (.invokevirtual 35, 3) := dk_182 0 35 (dk_at dksX8_least_0 13 rfl rfl)
theorem dX8_least_16 : decode cX8_least 16 = .ok (.invokevirtual 144, 3) := dk_182 0 144 (dk_at dksX8_least_0 16 rfl rfl)
theorem dX8_least_19 : decode cX8_least 19 = .ok (.ifCond .ne 46, 3) := dk_154 0 46 (dk_at dksX8_least_0 19 rfl rfl)
theorem dX8_least_22 : decode cX8_least 22 = .ok (.aload_n 0, 1) := dk_42 (dk_at dksX8_least_0 22 rfl rfl)
theorem dX8_least_23 : decode cX8_least 23 = .ok (.iload_n 3, 1) := dk_29 (dk_at dksX8_least_0 23 rfl rfl)
theorem dX8_least_24 : decode cX8_least 24 = .ok (.iload_n 2, 1) := dk_28 (dk_at dksX8_least_1 0 rfl rfl)
theorem dX8_least_25 : decode cX8_least 25 = .ok (.invokevirtual 147, 3) := dk_182 0 147 (dk_at dksX8_least_1 1 rfl rfl)
theorem dX8_least_28 : decode cX8_least 28 = .ok (.istore 4, 2) := dk_54 4 (dk_at dksX8_least_1 4 rfl rfl)
theorem dX8_least_30 : decode cX8_least 30 = .ok (.iload_n 2, 1) := dk_28 (dk_at dksX8_least_1 6 rfl rfl)
theorem dX8_least_31 : decode cX8_least 31 = .ok (.iload 4, 2) := dk_21 4 (dk_at dksX8_least_1 7 rfl rfl)
theorem dX8_least_33 : decode cX8_least 33 = .ok (.iconst (-1), 1) := dk_2 (dk_at dksX8_least_1 9 rfl rfl)
theorem dX8_least_34 : decode cX8_least 34 = .ok (.if_icmp .ne 7, 3) := dk_160 0 7 (dk_at dksX8_least_1 10 rfl rfl)
theorem dX8_least_37 : decode cX8_least 37 = .ok (.iconst 1, 1) := dk_4 (dk_at dksX8_least_1 13 rfl rfl)
theorem dX8_least_38 : decode cX8_least 38 = .ok (.goto 4, 3) := dk_167 0 4 (dk_at dksX8_least_1 14 rfl rfl)
theorem dX8_least_41 : decode cX8_least 41 = .ok (.iconst 0, 1) := dk_3 (dk_at dksX8_least_1 17 rfl rfl)
theorem dX8_least_42 : decode cX8_least 42 = .ok (.iadd, 1) := dk_96 (dk_at dksX8_least_1 18 rfl rfl)
theorem dX8_least_43 : decode cX8_least 43 = .ok (.istore_n 2, 1) := dk_61 (dk_at dksX8_least_1 19 rfl rfl)
theorem dX8_least_44 : decode cX8_least 44 = .ok (.iload 4, 2) := dk_21 4 (dk_at dksX8_least_1 20 rfl rfl)
theorem dX8_least_46 : decode cX8_least 46 = .ok (.iconst (-1), 1) := dk_2 (dk_at dksX8_least_1 22 rfl rfl)
theorem dX8_least_47 : decode cX8_least 47 = .ok (.if_icmp .ne 12, 3) := dk_160 0 12 (dk_at dksX8_least_2 0 rfl rfl)
theorem dX8_least_50 : decode cX8_least 50 = .ok (.aload_n 0, 1) := dk_42 (dk_at dksX8_least_2 3 rfl rfl)
theorem dX8_least_51 : decode cX8_least 51 = .ok (.iconst (-1), 1) := dk_2 (dk_at dksX8_least_2 4 rfl rfl)
theorem dX8_least_52 : decode cX8_least 52 = .ok (.iload_n 2, 1) := dk_28 (dk_at dksX8_least_2 5 rfl rfl)
theorem dX8_least_53 : decode cX8_least 53 = .ok (.invokevirtual 147, 3) := dk_182 0 147 (dk_at dksX8_least_2 6 rfl rfl)
theorem dX8_least_56 : decode cX8_least 56 = .ok (.goto 5, 3) := dk_167 0 5 (dk_at dksX8_least_2 9 rfl rfl)
theorem dX8_least_59 : decode cX8_least 59 = .ok (.iload 4, 2) := dk_21 4 (dk_at dksX8_least_2 12 rfl rfl)
theorem dX8_least_61 : decode cX8_least 61 = .ok (.istore_n 3, 1) := dk_62 (dk_at dksX8_least_2 14 rfl rfl)
theorem dX8_least_62 : decode cX8_least 62 = .ok (.goto (-52), 3) := dk_167 255 204 (dk_at dksX8_least_2 15 rfl rfl)
theorem dX8_least_65 : decode cX8_least 65 = .ok (.iload_n 3, 1) := dk_29 (dk_at dksX8_least_2 18 rfl rfl)
theorem dX8_least_66 : decode cX8_least 66 = .ok (.ireturn, 1) := dk_172 (dk_at dksX8_least_2 19 rfl rfl)
abbrev cX8_without : ByteArray := prog_5_method_3_code
def yX8_without : MethodName := ⟨RX8, "without", "(I)LTermsDesk$Deed;"⟩
def dkwX8_without_1 : List UInt8 := [27, 182, 0, 35, 176]
abbrev dktX8_without_1 : List UInt8 := dkwX8_without_1 ++ []
def dkwX8_without_0 : List UInt8 := [187, 0, 13, 89, 42, 180, 0, 18, 42, 180, 0, 22, 42, 180, 0, 26, 42, 180, 0, 29, 183, 0, 32, 42]
abbrev dktX8_without_0 : List UInt8 := dkwX8_without_0 ++ dktX8_without_1
theorem dksX8_without_0 : cX8_without.data.toList.drop 0 = dktX8_without_0 := by decide +kernel
theorem dksX8_without_1 : cX8_without.data.toList.drop 24 = dktX8_without_1 := dk_seg dksX8_without_0 24 rfl rfl
theorem dX8_without_0 : decode cX8_without 0 = .ok (.new 13, 3) := dk_187 0 13 (dk_at dksX8_without_0 0 rfl rfl)
theorem dX8_without_3 : decode cX8_without 3 = .ok (.dup, 1) := dk_89 (dk_at dksX8_without_0 3 rfl rfl)
theorem dX8_without_4 : decode cX8_without 4 = .ok (.aload_n 0, 1) := dk_42 (dk_at dksX8_without_0 4 rfl rfl)
theorem dX8_without_5 : decode cX8_without 5 = .ok (.getfield 18, 3) := dk_180 0 18 (dk_at dksX8_without_0 5 rfl rfl)
theorem dX8_without_8 : decode cX8_without 8 = .ok (.aload_n 0, 1) := dk_42 (dk_at dksX8_without_0 8 rfl rfl)
theorem dX8_without_9 : decode cX8_without 9 = .ok (.getfield 22, 3) := dk_180 0 22 (dk_at dksX8_without_0 9 rfl rfl)
theorem dX8_without_12 : decode cX8_without 12 = .ok (.aload_n 0, 1) := dk_42 (dk_at dksX8_without_0 12 rfl rfl)
theorem dX8_without_13 : decode cX8_without 13 = .ok (.getfield 26, 3) := dk_180 0 26 (dk_at dksX8_without_0 13 rfl rfl)
theorem dX8_without_16 : decode cX8_without 16 = .ok (.aload_n 0, 1) := dk_42 (dk_at dksX8_without_0 16 rfl rfl)
theorem dX8_without_17 : decode cX8_without 17 = .ok (.getfield 29, 3) := dk_180 0 29 (dk_at dksX8_without_0 17 rfl rfl)
theorem dX8_without_20 : decode cX8_without 20 = .ok (.invokespecial 32, 3) := dk_183 0 32 (dk_at dksX8_without_0 20 rfl rfl)
theorem dX8_without_23 : decode cX8_without 23 = .ok (.aload_n 0, 1) := dk_42 (dk_at dksX8_without_0 23 rfl rfl)
theorem dX8_without_24 : decode cX8_without 24 = .ok (.iload_n 1, 1) := dk_27 (dk_at dksX8_without_1 0 rfl rfl)
theorem dX8_without_25 : decode cX8_without 25 = .ok (.invokevirtual 35, 3) := dk_182 0 35 (dk_at dksX8_without_1 1 rfl rfl)
theorem dX8_without_28 : decode cX8_without 28 = .ok (.areturn, 1) := dk_176 (dk_at dksX8_without_1 4 rfl rfl)
abbrev cX8_become : ByteArray := prog_5_method_2_code
def yX8_become : MethodName := ⟨RX8, "become", "(LTermsDesk$Deed;I)LTermsDesk$Deed;"⟩
def dkwX8_become_1 : List UInt8 := [42, 176]
abbrev dktX8_become_1 : List UInt8 := dkwX8_become_1 ++ []
def dkwX8_become_0 : List UInt8 := [42, 43, 180, 0, 26, 28, 2, 130, 126, 181, 0, 26, 42, 43, 180, 0, 29, 28, 2, 130, 126, 181, 0, 29]
abbrev dktX8_become_0 : List UInt8 := dkwX8_become_0 ++ dktX8_become_1
theorem dksX8_become_0 : cX8_become.data.toList.drop 0 = dktX8_become_0 := by decide +kernel
theorem dksX8_become_1 : cX8_become.data.toList.drop 24 = dktX8_become_1 := dk_seg dksX8_become_0 24 rfl rfl
theorem dX8_become_0 : decode cX8_become 0 = .ok (.aload_n 0, 1) := dk_42 (dk_at dksX8_become_0 0 rfl rfl)
theorem dX8_become_1 : decode cX8_become 1 = .ok (.aload_n 1, 1) := dk_43 (dk_at dksX8_become_0 1 rfl rfl)
theorem dX8_become_2 : decode cX8_become 2 = .ok (.getfield 26, 3) := dk_180 0 26 (dk_at dksX8_become_0 2 rfl rfl)
theorem dX8_become_5 : decode cX8_become 5 = .ok (.iload_n 2, 1) := dk_28 (dk_at dksX8_become_0 5 rfl rfl)
theorem dX8_become_6 : decode cX8_become 6 = .ok (.iconst (-1), 1) := dk_2 (dk_at dksX8_become_0 6 rfl rfl)
theorem dX8_become_7 : decode cX8_become 7 = .ok (.ixor, 1) := dk_130 (dk_at dksX8_become_0 7 rfl rfl)
theorem dX8_become_8 : decode cX8_become 8 = .ok (.iand, 1) := dk_126 (dk_at dksX8_become_0 8 rfl rfl)
theorem dX8_become_9 : decode cX8_become 9 = .ok (.putfield 26, 3) := dk_181 0 26 (dk_at dksX8_become_0 9 rfl rfl)
theorem dX8_become_12 : decode cX8_become 12 = .ok (.aload_n 0, 1) := dk_42 (dk_at dksX8_become_0 12 rfl rfl)
theorem dX8_become_13 : decode cX8_become 13 = .ok (.aload_n 1, 1) := dk_43 (dk_at dksX8_become_0 13 rfl rfl)
theorem dX8_become_14 : decode cX8_become 14 = .ok (.getfield 29, 3) := dk_180 0 29 (dk_at dksX8_become_0 14 rfl rfl)
theorem dX8_become_17 : decode cX8_become 17 = .ok (.iload_n 2, 1) := dk_28 (dk_at dksX8_become_0 17 rfl rfl)
theorem dX8_become_18 : decode cX8_become 18 = .ok (.iconst (-1), 1) := dk_2 (dk_at dksX8_become_0 18 rfl rfl)
theorem dX8_become_19 : decode cX8_become 19 = .ok (.ixor, 1) := dk_130 (dk_at dksX8_become_0 19 rfl rfl)
theorem dX8_become_20 : decode cX8_become 20 = .ok (.iand, 1) := dk_126 (dk_at dksX8_become_0 20 rfl rfl)
theorem dX8_become_21 : decode cX8_become 21 = .ok (.putfield 29, 3) := dk_181 0 29 (dk_at dksX8_become_0 21 rfl rfl)
theorem dX8_become_24 : decode cX8_become 24 = .ok (.aload_n 0, 1) := dk_42 (dk_at dksX8_become_1 0 rfl rfl)
theorem dX8_become_25 : decode cX8_become 25 = .ok (.areturn, 1) := dk_176 (dk_at dksX8_become_1 1 rfl rfl)
abbrev cX8_isClear : ByteArray := prog_5_method_16_code
def yX8_isClear : MethodName := ⟨RX8, "isClear", "()Z"⟩
def dkwX8_isClear_1 : List UInt8 := [167, 0, 4, 3, 172]
abbrev dktX8_isClear_1 : List UInt8 := dkwX8_isClear_1 ++ []
def dkwX8_isClear_0 : List UInt8 := [42, 180, 0, 12, 2, 4, 182, 0, 123, 42, 182, 0, 126, 42, 180, 0, 12, 180, 0, 129, 154, 0, 7, 4]
abbrev dktX8_isClear_0 : List UInt8 := dkwX8_isClear_0 ++ dktX8_isClear_1
theorem dksX8_isClear_0 : cX8_isClear.data.toList.drop 0 = dktX8_isClear_0 := by decide +kernel
theorem dksX8_isClear_1 : cX8_isClear.data.toList.drop 24 = dktX8_isClear_1 := dk_seg dksX8_isClear_0 24 rfl rfl
theorem dX8_isClear_0 : decode cX8_isClear 0 = .ok (.aload_n 0, 1) := dk_42 (dk_at dksX8_isClear_0 0 rfl rfl)
theorem dX8_isClear_1 : decode cX8_isClear 1 = .ok (.getfield 12, 3) := dk_180 0 12 (dk_at dksX8_isClear_0 1 rfl rfl)
theorem dX8_isClear_4 : decode cX8_isClear 4 = .ok (.iconst (-1), 1) := dk_2 (dk_at dksX8_isClear_0 4 rfl rfl)
theorem dX8_isClear_5 : decode cX8_isClear 5 = .ok (.iconst 1, 1) := dk_4 (dk_at dksX8_isClear_0 5 rfl rfl)
theorem dX8_isClear_6 : decode cX8_isClear 6 = .ok (.invokevirtual 123, 3) := dk_182 0 123 (dk_at dksX8_isClear_0 6 rfl rfl)
theorem dX8_isClear_9 : decode cX8_isClear 9 = .ok (.aload_n 0, 1) := dk_42 (dk_at dksX8_isClear_0 9 rfl rfl)
theorem dX8_isClear_10 : decode cX8_isClear 10 = .ok (.invokevirtual 126, 3) := dk_182 0 126 (dk_at dksX8_isClear_0 10 rfl rfl)
theorem dX8_isClear_13 : decode cX8_isClear 13 = .ok (.aload_n 0, 1) := dk_42 (dk_at dksX8_isClear_0 13 rfl rfl)
theorem dX8_isClear_14 : decode cX8_isClear 14 = .ok (.getfield 12, 3) := dk_180 0 12 (dk_at dksX8_isClear_0 14 rfl rfl)
theorem dX8_isClear_17 : decode cX8_isClear 17 = .ok (.getfield 129, 3) := dk_180 0 129 (dk_at dksX8_isClear_0 17 rfl rfl)
theorem dX8_isClear_20 : decode cX8_isClear 20 = .ok (.ifCond .ne 7, 3) := dk_154 0 7 (dk_at dksX8_isClear_0 20 rfl rfl)
theorem dX8_isClear_23 : decode cX8_isClear 23 = .ok (.iconst 1, 1) := dk_4 (dk_at dksX8_isClear_0 23 rfl rfl)
theorem dX8_isClear_24 : decode cX8_isClear 24 = .ok (.goto 4, 3) := dk_167 0 4 (dk_at dksX8_isClear_1 0 rfl rfl)
theorem dX8_isClear_27 : decode cX8_isClear 27 = .ok (.iconst 0, 1) := dk_3 (dk_at dksX8_isClear_1 3 rfl rfl)
theorem dX8_isClear_28 : decode cX8_isClear 28 = .ok (.ireturn, 1) := dk_172 (dk_at dksX8_isClear_1 4 rfl rfl)
abbrev cX8_findAll : ByteArray := prog_5_method_13_code
def yX8_findAll : MethodName := ⟨RX8, "findAll", "()V"⟩
def dkwX8_findAll_3 : List UInt8 := [167, 255, 208, 132, 1, 1, 167, 255, 184, 177]
abbrev dktX8_findAll_3 : List UInt8 := dkwX8_findAll_3 ++ []
def dkwX8_findAll_2 : List UInt8 := [153, 0, 21, 42, 28, 182, 0, 91, 27, 184, 0, 39, 153, 0, 9, 42, 27, 28, 182, 0, 118, 132, 2, 1]
abbrev dktX8_findAll_2 : List UInt8 := dkwX8_findAll_2 ++ dktX8_findAll_3
def dkwX8_findAll_1 : List UInt8 := [28, 16, 10, 162, 0, 48, 42, 180, 0, 12, 182, 0, 100, 153, 0, 38, 42, 182, 0, 89, 28, 184, 0, 39]
abbrev dktX8_findAll_1 : List UInt8 := dkwX8_findAll_1 ++ dktX8_findAll_2
def dkwX8_findAll_0 : List UInt8 := [42, 182, 0, 115, 3, 60, 27, 16, 10, 162, 0, 72, 42, 180, 0, 12, 182, 0, 100, 153, 0, 62, 3, 61]
abbrev dktX8_findAll_0 : List UInt8 := dkwX8_findAll_0 ++ dktX8_findAll_1
theorem dksX8_findAll_0 : cX8_findAll.data.toList.drop 0 = dktX8_findAll_0 := by decide +kernel
theorem dksX8_findAll_1 : cX8_findAll.data.toList.drop 24 = dktX8_findAll_1 := dk_seg dksX8_findAll_0 24 rfl rfl
theorem dksX8_findAll_2 : cX8_findAll.data.toList.drop 48 = dktX8_findAll_2 := dk_seg dksX8_findAll_1 24 rfl rfl
theorem dksX8_findAll_3 : cX8_findAll.data.toList.drop 72 = dktX8_findAll_3 := dk_seg dksX8_findAll_2 24 rfl rfl
theorem dX8_findAll_0 : decode cX8_findAll 0 = .ok (.aload_n 0, 1) := dk_42 (dk_at dksX8_findAll_0 0 rfl rfl)
theorem dX8_findAll_1 : decode cX8_findAll 1 = .ok (.invokevirtual 115, 3) := dk_182 0 115 (dk_at dksX8_findAll_0 1 rfl rfl)
theorem dX8_findAll_4 : decode cX8_findAll 4 = .ok (.iconst 0, 1) := dk_3 (dk_at dksX8_findAll_0 4 rfl rfl)
theorem dX8_findAll_5 : decode cX8_findAll 5 = .ok (.istore_n 1, 1) := dk_60 (dk_at dksX8_findAll_0 5 rfl rfl)
theorem dX8_findAll_6 : decode cX8_findAll 6 = .ok (.iload_n 1, 1) := dk_27 (dk_at dksX8_findAll_0 6 rfl rfl)
theorem dX8_findAll_7 : decode cX8_findAll 7 = .ok (.bipush 10, 2) := dk_16 10 (dk_at dksX8_findAll_0 7 rfl rfl)
theorem dX8_findAll_9 : decode cX8_findAll 9 = .ok (.if_icmp .ge 72, 3) := dk_162 0 72 (dk_at dksX8_findAll_0 9 rfl rfl)
theorem dX8_findAll_12 : decode cX8_findAll 12 = .ok (.aload_n 0, 1) := dk_42 (dk_at dksX8_findAll_0 12 rfl rfl)
theorem dX8_findAll_13 : decode cX8_findAll 13 = .ok (.getfield 12, 3) := dk_180 0 12 (dk_at dksX8_findAll_0 13 rfl rfl)
theorem dX8_findAll_16 : decode cX8_findAll 16 = .ok (.invokevirtual 100, 3) := dk_182 0 100 (dk_at dksX8_findAll_0 16 rfl rfl)
theorem dX8_findAll_19 : decode cX8_findAll 19 = .ok (.ifCond .eq 62, 3) := dk_153 0 62 (dk_at dksX8_findAll_0 19 rfl rfl)
theorem dX8_findAll_22 : decode cX8_findAll 22 = .ok (.iconst 0, 1) := dk_3 (dk_at dksX8_findAll_0 22 rfl rfl)
theorem dX8_findAll_23 : decode cX8_findAll 23 = .ok (.istore_n 2, 1) := dk_61 (dk_at dksX8_findAll_0 23 rfl rfl)
theorem dX8_findAll_24 : decode cX8_findAll 24 = .ok (.iload_n 2, 1) := dk_28 (dk_at dksX8_findAll_1 0 rfl rfl)
theorem dX8_findAll_25 : decode cX8_findAll 25 = .ok (.bipush 10, 2) := dk_16 10 (dk_at dksX8_findAll_1 1 rfl rfl)
theorem dX8_findAll_27 : decode cX8_findAll 27 = .ok (.if_icmp .ge 48, 3) := dk_162 0 48 (dk_at dksX8_findAll_1 3 rfl rfl)
theorem dX8_findAll_30 : decode cX8_findAll 30 = .ok (.aload_n 0, 1) := dk_42 (dk_at dksX8_findAll_1 6 rfl rfl)
theorem dX8_findAll_31 : decode cX8_findAll 31 = .ok (.getfield 12, 3) := dk_180 0 12 (dk_at dksX8_findAll_1 7 rfl rfl)
theorem dX8_findAll_34 : decode cX8_findAll 34 = .ok (.invokevirtual 100, 3) := dk_182 0 100 (dk_at dksX8_findAll_1 10 rfl rfl)
theorem dX8_findAll_37 : decode cX8_findAll 37 = .ok (.ifCond .eq 38, 3) := dk_153 0 38 (dk_at dksX8_findAll_1 13 rfl rfl)
theorem dX8_findAll_40 : decode cX8_findAll 40 = .ok (.aload_n 0, 1) := dk_42 (dk_at dksX8_findAll_1 16 rfl rfl)
theorem dX8_findAll_41 : decode cX8_findAll 41 = .ok (.invokevirtual 89, 3) := dk_182 0 89 (dk_at dksX8_findAll_1 17 rfl rfl)
theorem dX8_findAll_44 : decode cX8_findAll 44 = .ok (.iload_n 2, 1) := dk_28 (dk_at dksX8_findAll_1 20 rfl rfl)
theorem dX8_findAll_45 : decode cX8_findAll 45 = .ok (.invokestatic 39, 3) := dk_184 0 39 (dk_at dksX8_findAll_1 21 rfl rfl)
theorem dX8_findAll_48 : decode cX8_findAll 48 = .ok (.ifCond .eq 21, 3) := dk_153 0 21 (dk_at dksX8_findAll_2 0 rfl rfl)
theorem dX8_findAll_51 : decode cX8_findAll 51 = .ok (.aload_n 0, 1) := dk_42 (dk_at dksX8_findAll_2 3 rfl rfl)
theorem dX8_findAll_52 : decode cX8_findAll 52 = .ok (.iload_n 2, 1) := dk_28 (dk_at dksX8_findAll_2 4 rfl rfl)
theorem dX8_findAll_53 : decode cX8_findAll 53 = .ok (.invokevirtual 91, 3) := dk_182 0 91 (dk_at dksX8_findAll_2 5 rfl rfl)
theorem dX8_findAll_56 : decode cX8_findAll 56 = .ok (.iload_n 1, 1) := dk_27 (dk_at dksX8_findAll_2 8 rfl rfl)
theorem dX8_findAll_57 : decode cX8_findAll 57 = .ok (.invokestatic 39, 3) := dk_184 0 39 (dk_at dksX8_findAll_2 9 rfl rfl)
theorem dX8_findAll_60 : decode cX8_findAll 60 = .ok (.ifCond .eq 9, 3) := dk_153 0 9 (dk_at dksX8_findAll_2 12 rfl rfl)
theorem dX8_findAll_63 : decode cX8_findAll 63 = .ok (.aload_n 0, 1) := dk_42 (dk_at dksX8_findAll_2 15 rfl rfl)
theorem dX8_findAll_64 : decode cX8_findAll 64 = .ok (.iload_n 1, 1) := dk_27 (dk_at dksX8_findAll_2 16 rfl rfl)
theorem dX8_findAll_65 : decode cX8_findAll 65 = .ok (.iload_n 2, 1) := dk_28 (dk_at dksX8_findAll_2 17 rfl rfl)
theorem dX8_findAll_66 : decode cX8_findAll 66 = .ok (.invokevirtual 118, 3) := dk_182 0 118 (dk_at dksX8_findAll_2 18 rfl rfl)
theorem dX8_findAll_69 : decode cX8_findAll 69 = .ok (.iinc 2 1, 3) := dk_132 2 1 (dk_at dksX8_findAll_2 21 rfl rfl)
theorem dX8_findAll_72 : decode cX8_findAll 72 = .ok (.goto (-48), 3) := dk_167 255 208 (dk_at dksX8_findAll_3 0 rfl rfl)
theorem dX8_findAll_75 : decode cX8_findAll 75 = .ok (.iinc 1 1, 3) := dk_132 1 1 (dk_at dksX8_findAll_3 3 rfl rfl)
theorem dX8_findAll_78 : decode cX8_findAll 78 = .ok (.goto (-72), 3) := dk_167 255 184 (dk_at dksX8_findAll_3 6 rfl rfl)
theorem dX8_findAll_81 : decode cX8_findAll 81 = .ok (.return_, 1) := dk_177 (dk_at dksX8_findAll_3 9 rfl rfl)
abbrev cX8_findUnpermitted : ByteArray := prog_5_method_11_code
def yX8_findUnpermitted : MethodName := ⟨RX8, "findUnpermitted", "()V"⟩
def dkwX8_findUnpermitted_3 : List UInt8 := [182, 0, 107, 132, 2, 1, 167, 255, 199, 132, 1, 1, 167, 255, 175, 177]
abbrev dktX8_findUnpermitted_3 : List UInt8 := dkwX8_findUnpermitted_3 ++ []
def dkwX8_findUnpermitted_2 : List UInt8 := [42, 27, 182, 0, 72, 180, 0, 104, 28, 184, 0, 39, 154, 0, 14, 42, 180, 0, 12, 4, 27, 28, 2]
abbrev dktX8_findUnpermitted_2 : List UInt8 := dkwX8_findUnpermitted_2 ++ dktX8_findUnpermitted_3
def dkwX8_findUnpermitted_1 : List UInt8 := [27, 184, 0, 39, 153, 0, 52, 28, 8, 162, 0, 47, 42, 27, 182, 0, 78, 28, 184, 0, 39, 153, 0, 29]
abbrev dktX8_findUnpermitted_1 : List UInt8 := dkwX8_findUnpermitted_1 ++ dktX8_findUnpermitted_2
def dkwX8_findUnpermitted_0 : List UInt8 := [3, 60, 27, 16, 10, 162, 0, 81, 42, 180, 0, 12, 182, 0, 100, 153, 0, 71, 3, 61, 42, 182, 0, 89]
abbrev dktX8_findUnpermitted_0 : List UInt8 := dkwX8_findUnpermitted_0 ++ dktX8_findUnpermitted_1
theorem dksX8_findUnpermitted_0 : cX8_findUnpermitted.data.toList.drop 0 = dktX8_findUnpermitted_0 := by decide +kernel
theorem dksX8_findUnpermitted_1 : cX8_findUnpermitted.data.toList.drop 24 = dktX8_findUnpermitted_1 := dk_seg dksX8_findUnpermitted_0 24 rfl rfl
theorem dksX8_findUnpermitted_2 : cX8_findUnpermitted.data.toList.drop 48 = dktX8_findUnpermitted_2 := dk_seg dksX8_findUnpermitted_1 24 rfl rfl
theorem dksX8_findUnpermitted_3 : cX8_findUnpermitted.data.toList.drop 71 = dktX8_findUnpermitted_3 := dk_seg dksX8_findUnpermitted_2 23 rfl rfl
theorem dX8_findUnpermitted_0 : decode cX8_findUnpermitted 0 = .ok (.iconst 0, 1) := dk_3 (dk_at dksX8_findUnpermitted_0 0 rfl rfl)
theorem dX8_findUnpermitted_1 : decode cX8_findUnpermitted 1 = .ok (.istore_n 1, 1) := dk_60 (dk_at dksX8_findUnpermitted_0 1 rfl rfl)
theorem dX8_findUnpermitted_2 : decode cX8_findUnpermitted 2 = .ok (.iload_n 1, 1) := dk_27 (dk_at dksX8_findUnpermitted_0 2 rfl rfl)
theorem dX8_findUnpermitted_3 : decode cX8_findUnpermitted 3 = .ok (.bipush 10, 2) := dk_16 10 (dk_at dksX8_findUnpermitted_0 3 rfl rfl)
theorem dX8_findUnpermitted_5 : decode cX8_findUnpermitted 5 = .ok (.if_icmp .ge 81, 3) := dk_162 0 81 (dk_at dksX8_findUnpermitted_0 5 rfl rfl)
theorem dX8_findUnpermitted_8 : decode cX8_findUnpermitted 8 = .ok (.aload_n 0, 1) := dk_42 (dk_at dksX8_findUnpermitted_0 8 rfl rfl)
theorem dX8_findUnpermitted_9 : decode cX8_findUnpermitted 9 = .ok (.getfield 12, 3) := dk_180 0 12 (dk_at dksX8_findUnpermitted_0 9 rfl rfl)
theorem dX8_findUnpermitted_12 : decode cX8_findUnpermitted 12 = .ok (.invokevirtual 100, 3) := dk_182 0 100 (dk_at dksX8_findUnpermitted_0 12 rfl rfl)
theorem dX8_findUnpermitted_15 : decode cX8_findUnpermitted 15 = .ok (.ifCond .eq 71, 3) := dk_153 0 71 (dk_at dksX8_findUnpermitted_0 15 rfl rfl)
theorem dX8_findUnpermitted_18 : decode cX8_findUnpermitted 18 = .ok (.iconst 0, 1) := dk_3 (dk_at dksX8_findUnpermitted_0 18 rfl rfl)
theorem dX8_findUnpermitted_19 : decode cX8_findUnpermitted 19 = .ok (.istore_n 2, 1) := dk_61 (dk_at dksX8_findUnpermitted_0 19 rfl rfl)
theorem dX8_findUnpermitted_20 : decode cX8_findUnpermitted 20 = .ok (.aload_n 0, 1) := dk_42 (dk_at dksX8_findUnpermitted_0 20 rfl rfl)
theorem dX8_findUnpermitted_21 : decode cX8_findUnpermitted 21 = .ok (.invokevirtual 89, 3) := dk_182 0 89 (dk_at dksX8_findUnpermitted_0 21 rfl rfl)
theorem dX8_findUnpermitted_24 : decode cX8_findUnpermitted 24 = .ok (.iload_n 1, 1) := dk_27 (dk_at dksX8_findUnpermitted_1 0 rfl rfl)
theorem dX8_findUnpermitted_25 : decode cX8_findUnpermitted 25 = .ok (.invokestatic 39, 3) := dk_184 0 39 (dk_at dksX8_findUnpermitted_1 1 rfl rfl)
theorem dX8_findUnpermitted_28 : decode cX8_findUnpermitted 28 = .ok (.ifCond .eq 52, 3) := dk_153 0 52 (dk_at dksX8_findUnpermitted_1 4 rfl rfl)
theorem dX8_findUnpermitted_31 : decode cX8_findUnpermitted 31 = .ok (.iload_n 2, 1) := dk_28 (dk_at dksX8_findUnpermitted_1 7 rfl rfl)
theorem dX8_findUnpermitted_32 : decode cX8_findUnpermitted 32 = .ok (.iconst 5, 1) := dk_8 (dk_at dksX8_findUnpermitted_1 8 rfl rfl)
theorem dX8_findUnpermitted_33 : decode cX8_findUnpermitted 33 = .ok (.if_icmp .ge 47, 3) := dk_162 0 47 (dk_at dksX8_findUnpermitted_1 9 rfl rfl)
theorem dX8_findUnpermitted_36 : decode cX8_findUnpermitted 36 = .ok (.aload_n 0, 1) := dk_42 (dk_at dksX8_findUnpermitted_1 12 rfl rfl)
theorem dX8_findUnpermitted_37 : decode cX8_findUnpermitted 37 = .ok (.iload_n 1, 1) := dk_27 (dk_at dksX8_findUnpermitted_1 13 rfl rfl)
theorem dX8_findUnpermitted_38 : decode cX8_findUnpermitted 38 = .ok (.invokevirtual 78, 3) := dk_182 0 78 (dk_at dksX8_findUnpermitted_1 14 rfl rfl)
theorem dX8_findUnpermitted_41 : decode cX8_findUnpermitted 41 = .ok (.iload_n 2, 1) := dk_28 (dk_at dksX8_findUnpermitted_1 17 rfl rfl)
theorem dX8_findUnpermitted_42 : decode cX8_findUnpermitted 42 = .ok (.invokestatic 39, 3) := dk_184 0 39 (dk_at dksX8_findUnpermitted_1 18 rfl rfl)
theorem dX8_findUnpermitted_45 : decode cX8_findUnpermitted 45 = .ok (.ifCond .eq 29, 3) := dk_153 0 29 (dk_at dksX8_findUnpermitted_1 21 rfl rfl)
theorem dX8_findUnpermitted_48 : decode cX8_findUnpermitted 48 = .ok (.aload_n 0, 1) := dk_42 (dk_at dksX8_findUnpermitted_2 0 rfl rfl)
theorem dX8_findUnpermitted_49 : decode cX8_findUnpermitted 49 = .ok (.iload_n 1, 1) := dk_27 (dk_at dksX8_findUnpermitted_2 1 rfl rfl)
theorem dX8_findUnpermitted_50 : decode cX8_findUnpermitted 50 = .ok (.invokevirtual 72, 3) := dk_182 0 72 (dk_at dksX8_findUnpermitted_2 2 rfl rfl)
theorem dX8_findUnpermitted_53 : decode cX8_findUnpermitted 53 = .ok (.getfield 104, 3) := dk_180 0 104 (dk_at dksX8_findUnpermitted_2 5 rfl rfl)
theorem dX8_findUnpermitted_56 : decode cX8_findUnpermitted 56 = .ok (.iload_n 2, 1) := dk_28 (dk_at dksX8_findUnpermitted_2 8 rfl rfl)
theorem dX8_findUnpermitted_57 : decode cX8_findUnpermitted 57 = .ok (.invokestatic 39, 3) := dk_184 0 39 (dk_at dksX8_findUnpermitted_2 9 rfl rfl)
theorem dX8_findUnpermitted_60 : decode cX8_findUnpermitted 60 = .ok (.ifCond .ne 14, 3) := dk_154 0 14 (dk_at dksX8_findUnpermitted_2 12 rfl rfl)
theorem dX8_findUnpermitted_63 : decode cX8_findUnpermitted 63 = .ok (.aload_n 0, 1) := dk_42 (dk_at dksX8_findUnpermitted_2 15 rfl rfl)
theorem dX8_findUnpermitted_64 : decode cX8_findUnpermitted 64 = .ok (.getfield 12, 3) := dk_180 0 12 (dk_at dksX8_findUnpermitted_2 16 rfl rfl)
theorem dX8_findUnpermitted_67 : decode cX8_findUnpermitted 67 = .ok (.iconst 1, 1) := dk_4 (dk_at dksX8_findUnpermitted_2 19 rfl rfl)
theorem dX8_findUnpermitted_68 : decode cX8_findUnpermitted 68 = .ok (.iload_n 1, 1) := dk_27 (dk_at dksX8_findUnpermitted_2 20 rfl rfl)
theorem dX8_findUnpermitted_69 : decode cX8_findUnpermitted 69 = .ok (.iload_n 2, 1) := dk_28 (dk_at dksX8_findUnpermitted_2 21 rfl rfl)
theorem dX8_findUnpermitted_70 : decode cX8_findUnpermitted 70 = .ok (.iconst (-1), 1) := dk_2 (dk_at dksX8_findUnpermitted_2 22 rfl rfl)
theorem dX8_findUnpermitted_71 : decode cX8_findUnpermitted 71 = .ok (.invokevirtual 107, 3) := dk_182 0 107 (dk_at dksX8_findUnpermitted_3 0 rfl rfl)
theorem dX8_findUnpermitted_74 : decode cX8_findUnpermitted 74 = .ok (.iinc 2 1, 3) := dk_132 2 1 (dk_at dksX8_findUnpermitted_3 3 rfl rfl)
theorem dX8_findUnpermitted_77 : decode cX8_findUnpermitted 77 = .ok (.goto (-57), 3) := dk_167 255 199 (dk_at dksX8_findUnpermitted_3 6 rfl rfl)
theorem dX8_findUnpermitted_80 : decode cX8_findUnpermitted 80 = .ok (.iinc 1 1, 3) := dk_132 1 1 (dk_at dksX8_findUnpermitted_3 9 rfl rfl)
theorem dX8_findUnpermitted_83 : decode cX8_findUnpermitted 83 = .ok (.goto (-81), 3) := dk_167 255 175 (dk_at dksX8_findUnpermitted_3 12 rfl rfl)
theorem dX8_findUnpermitted_86 : decode cX8_findUnpermitted 86 = .ok (.return_, 1) := dk_177 (dk_at dksX8_findUnpermitted_3 15 rfl rfl)
abbrev cX8_files : ByteArray := prog_5_method_4_code
def yX8_files : MethodName := ⟨RX8, "files", "()I"⟩
def dkwX8_files_0 : List UInt8 := [42, 180, 0, 26, 42, 180, 0, 29, 128, 172]
abbrev dktX8_files_0 : List UInt8 := dkwX8_files_0 ++ []
theorem dksX8_files_0 : cX8_files.data.toList.drop 0 = dktX8_files_0 := by decide +kernel
theorem dX8_files_0 : decode cX8_files 0 = .ok (.aload_n 0, 1) := dk_42 (dk_at dksX8_files_0 0 rfl rfl)
theorem dX8_files_1 : decode cX8_files 1 = .ok (.getfield 26, 3) := dk_180 0 26 (dk_at dksX8_files_0 1 rfl rfl)
theorem dX8_files_4 : decode cX8_files 4 = .ok (.aload_n 0, 1) := dk_42 (dk_at dksX8_files_0 4 rfl rfl)
theorem dX8_files_5 : decode cX8_files 5 = .ok (.getfield 29, 3) := dk_180 0 29 (dk_at dksX8_files_0 5 rfl rfl)
theorem dX8_files_8 : decode cX8_files 8 = .ok (.ior, 1) := dk_128 (dk_at dksX8_files_0 8 rfl rfl)
theorem dX8_files_9 : decode cX8_files 9 = .ok (.ireturn, 1) := dk_172 (dk_at dksX8_files_0 9 rfl rfl)
abbrev cX8_acts : ByteArray := prog_5_method_5_code
def yX8_acts : MethodName := ⟨RX8, "acts", "(I)I"⟩
def dkwX8_acts_2 : List UInt8 := [164, 0, 7, 7, 167, 0, 4, 3, 128, 172]
abbrev dktX8_acts_2 : List UInt8 := dkwX8_acts_2 ++ []
def dkwX8_acts_1 : List UInt8 := [3, 128, 61, 28, 42, 180, 0, 26, 27, 184, 0, 39, 153, 0, 18, 42, 180, 0, 26, 184, 0, 43, 4]
abbrev dktX8_acts_1 : List UInt8 := dkwX8_acts_1 ++ dktX8_acts_2
def dkwX8_acts_0 : List UInt8 := [4, 42, 180, 0, 22, 120, 61, 28, 42, 180, 0, 29, 27, 184, 0, 39, 153, 0, 8, 16, 8, 167, 0, 4]
abbrev dktX8_acts_0 : List UInt8 := dkwX8_acts_0 ++ dktX8_acts_1
theorem dksX8_acts_0 : cX8_acts.data.toList.drop 0 = dktX8_acts_0 := by decide +kernel
theorem dksX8_acts_1 : cX8_acts.data.toList.drop 24 = dktX8_acts_1 := dk_seg dksX8_acts_0 24 rfl rfl
theorem dksX8_acts_2 : cX8_acts.data.toList.drop 47 = dktX8_acts_2 := dk_seg dksX8_acts_1 23 rfl rfl
theorem dX8_acts_0 : decode cX8_acts 0 = .ok (.iconst 1, 1) := dk_4 (dk_at dksX8_acts_0 0 rfl rfl)
theorem dX8_acts_1 : decode cX8_acts 1 = .ok (.aload_n 0, 1) := dk_42 (dk_at dksX8_acts_0 1 rfl rfl)
theorem dX8_acts_2 : decode cX8_acts 2 = .ok (.getfield 22, 3) := dk_180 0 22 (dk_at dksX8_acts_0 2 rfl rfl)
theorem dX8_acts_5 : decode cX8_acts 5 = .ok (.ishl, 1) := dk_120 (dk_at dksX8_acts_0 5 rfl rfl)
theorem dX8_acts_6 : decode cX8_acts 6 = .ok (.istore_n 2, 1) := dk_61 (dk_at dksX8_acts_0 6 rfl rfl)
theorem dX8_acts_7 : decode cX8_acts 7 = .ok (.iload_n 2, 1) := dk_28 (dk_at dksX8_acts_0 7 rfl rfl)
theorem dX8_acts_8 : decode cX8_acts 8 = .ok (.aload_n 0, 1) := dk_42 (dk_at dksX8_acts_0 8 rfl rfl)
theorem dX8_acts_9 : decode cX8_acts 9 = .ok (.getfield 29, 3) := dk_180 0 29 (dk_at dksX8_acts_0 9 rfl rfl)
theorem dX8_acts_12 : decode cX8_acts 12 = .ok (.iload_n 1, 1) := dk_27 (dk_at dksX8_acts_0 12 rfl rfl)
theorem dX8_acts_13 : decode cX8_acts 13 = .ok (.invokestatic 39, 3) := dk_184 0 39 (dk_at dksX8_acts_0 13 rfl rfl)
theorem dX8_acts_16 : decode cX8_acts 16 = .ok (.ifCond .eq 8, 3) := dk_153 0 8 (dk_at dksX8_acts_0 16 rfl rfl)
theorem dX8_acts_19 : decode cX8_acts 19 = .ok (.bipush 8, 2) := dk_16 8 (dk_at dksX8_acts_0 19 rfl rfl)
theorem dX8_acts_21 : decode cX8_acts 21 = .ok (.goto 4, 3) := dk_167 0 4 (dk_at dksX8_acts_0 21 rfl rfl)
theorem dX8_acts_24 : decode cX8_acts 24 = .ok (.iconst 0, 1) := dk_3 (dk_at dksX8_acts_1 0 rfl rfl)
theorem dX8_acts_25 : decode cX8_acts 25 = .ok (.ior, 1) := dk_128 (dk_at dksX8_acts_1 1 rfl rfl)
theorem dX8_acts_26 : decode cX8_acts 26 = .ok (.istore_n 2, 1) := dk_61 (dk_at dksX8_acts_1 2 rfl rfl)
theorem dX8_acts_27 : decode cX8_acts 27 = .ok (.iload_n 2, 1) := dk_28 (dk_at dksX8_acts_1 3 rfl rfl)
theorem dX8_acts_28 : decode cX8_acts 28 = .ok (.aload_n 0, 1) := dk_42 (dk_at dksX8_acts_1 4 rfl rfl)
theorem dX8_acts_29 : decode cX8_acts 29 = .ok (.getfield 26, 3) := dk_180 0 26 (dk_at dksX8_acts_1 5 rfl rfl)
theorem dX8_acts_32 : decode cX8_acts 32 = .ok (.iload_n 1, 1) := dk_27 (dk_at dksX8_acts_1 8 rfl rfl)
theorem dX8_acts_33 : decode cX8_acts 33 = .ok (.invokestatic 39, 3) := dk_184 0 39 (dk_at dksX8_acts_1 9 rfl rfl)
theorem dX8_acts_36 : decode cX8_acts 36 = .ok (.ifCond .eq 18, 3) := dk_153 0 18 (dk_at dksX8_acts_1 12 rfl rfl)
theorem dX8_acts_39 : decode cX8_acts 39 = .ok (.aload_n 0, 1) := dk_42 (dk_at dksX8_acts_1 15 rfl rfl)
theorem dX8_acts_40 : decode cX8_acts 40 = .ok (.getfield 26, 3) := dk_180 0 26 (dk_at dksX8_acts_1 16 rfl rfl)
theorem dX8_acts_43 : decode cX8_acts 43 = .ok (.invokestatic 43, 3) := dk_184 0 43 (dk_at dksX8_acts_1 19 rfl rfl)
theorem dX8_acts_46 : decode cX8_acts 46 = .ok (.iconst 1, 1) := dk_4 (dk_at dksX8_acts_1 22 rfl rfl)
theorem dX8_acts_47 : decode cX8_acts 47 = .ok (.if_icmp .le 7, 3) := dk_164 0 7 (dk_at dksX8_acts_2 0 rfl rfl)
theorem dX8_acts_50 : decode cX8_acts 50 = .ok (.iconst 4, 1) := dk_7 (dk_at dksX8_acts_2 3 rfl rfl)
theorem dX8_acts_51 : decode cX8_acts 51 = .ok (.goto 4, 3) := dk_167 0 4 (dk_at dksX8_acts_2 4 rfl rfl)
theorem dX8_acts_54 : decode cX8_acts 54 = .ok (.iconst 0, 1) := dk_3 (dk_at dksX8_acts_2 7 rfl rfl)
theorem dX8_acts_55 : decode cX8_acts 55 = .ok (.ior, 1) := dk_128 (dk_at dksX8_acts_2 8 rfl rfl)
theorem dX8_acts_56 : decode cX8_acts 56 = .ok (.ireturn, 1) := dk_172 (dk_at dksX8_acts_2 9 rfl rfl)
abbrev cX8_licence : ByteArray := prog_5_method_6_code
def yX8_licence : MethodName := ⟨RX8, "licence", "(I)LTermsDesk$Licence;"⟩
def dkwX8_licence_1 : List UInt8 := [182, 0, 58, 192, 0, 70, 176]
abbrev dktX8_licence_1 : List UInt8 := dkwX8_licence_1 ++ []
def dkwX8_licence_0 : List UInt8 := [42, 180, 0, 18, 180, 0, 49, 42, 180, 0, 18, 180, 0, 55, 27, 182, 0, 58, 192, 0, 64, 182, 0, 66]
abbrev dktX8_licence_0 : List UInt8 := dkwX8_licence_0 ++ dktX8_licence_1
theorem dksX8_licence_0 : cX8_licence.data.toList.drop 0 = dktX8_licence_0 := by decide +kernel
theorem dksX8_licence_1 : cX8_licence.data.toList.drop 24 = dktX8_licence_1 := dk_seg dksX8_licence_0 24 rfl rfl
theorem dX8_licence_0 : decode cX8_licence 0 = .ok (.aload_n 0, 1) := dk_42 (dk_at dksX8_licence_0 0 rfl rfl)
theorem dX8_licence_1 : decode cX8_licence 1 = .ok (.getfield 18, 3) := dk_180 0 18 (dk_at dksX8_licence_0 1 rfl rfl)
theorem dX8_licence_4 : decode cX8_licence 4 = .ok (.getfield 49, 3) := dk_180 0 49 (dk_at dksX8_licence_0 4 rfl rfl)
theorem dX8_licence_7 : decode cX8_licence 7 = .ok (.aload_n 0, 1) := dk_42 (dk_at dksX8_licence_0 7 rfl rfl)
theorem dX8_licence_8 : decode cX8_licence 8 = .ok (.getfield 18, 3) := dk_180 0 18 (dk_at dksX8_licence_0 8 rfl rfl)
theorem dX8_licence_11 : decode cX8_licence 11 = .ok (.getfield 55, 3) := dk_180 0 55 (dk_at dksX8_licence_0 11 rfl rfl)
theorem dX8_licence_14 : decode cX8_licence 14 = .ok (.iload_n 1, 1) := dk_27 (dk_at dksX8_licence_0 14 rfl rfl)
theorem dX8_licence_15 : decode cX8_licence 15 = .ok (.invokevirtual 58, 3) := dk_182 0 58 (dk_at dksX8_licence_0 15 rfl rfl)
theorem dX8_licence_18 : decode cX8_licence 18 = .ok (.checkcast 64, 3) := dk_192 0 64 (dk_at dksX8_licence_0 18 rfl rfl)
theorem dX8_licence_21 : decode cX8_licence 21 = .ok (.invokevirtual 66, 3) := dk_182 0 66 (dk_at dksX8_licence_0 21 rfl rfl)
theorem dX8_licence_24 : decode cX8_licence 24 = .ok (.invokevirtual 58, 3) := dk_182 0 58 (dk_at dksX8_licence_1 0 rfl rfl)
theorem dX8_licence_27 : decode cX8_licence 27 = .ok (.checkcast 70, 3) := dk_192 0 70 (dk_at dksX8_licence_1 3 rfl rfl)
theorem dX8_licence_30 : decode cX8_licence 30 = .ok (.areturn, 1) := dk_176 (dk_at dksX8_licence_1 6 rfl rfl)
abbrev cX8_due : ByteArray := prog_5_method_7_code
def yX8_due : MethodName := ⟨RX8, "due", "(I)I"⟩
def dkwX8_due_3 : List UInt8 := [167, 0, 4, 3, 128, 54, 4, 132, 5, 1, 167, 255, 220, 21, 4, 172]
abbrev dktX8_due_3 : List UInt8 := dkwX8_due_3 ++ []
def dkwX8_due_2 : List UInt8 := [162, 0, 36, 21, 4, 29, 21, 5, 184, 0, 39, 153, 0, 15, 44, 180, 0, 81, 21, 5, 184, 0, 85]
abbrev dktX8_due_2 : List UInt8 := dkwX8_due_2 ++ dktX8_due_3
def dkwX8_due_1 : List UInt8 := [162, 0, 8, 16, 8, 167, 0, 8, 42, 27, 182, 0, 78, 62, 3, 54, 4, 3, 54, 5, 21, 5, 8]
abbrev dktX8_due_1 : List UInt8 := dkwX8_due_1 ++ dktX8_due_2
def dkwX8_due_0 : List UInt8 := [42, 27, 182, 0, 72, 77, 42, 180, 0, 29, 27, 184, 0, 39, 153, 0, 16, 44, 180, 0, 75, 5]
abbrev dktX8_due_0 : List UInt8 := dkwX8_due_0 ++ dktX8_due_1
theorem dksX8_due_0 : cX8_due.data.toList.drop 0 = dktX8_due_0 := by decide +kernel
theorem dksX8_due_1 : cX8_due.data.toList.drop 22 = dktX8_due_1 := dk_seg dksX8_due_0 22 rfl rfl
theorem dksX8_due_2 : cX8_due.data.toList.drop 45 = dktX8_due_2 := dk_seg dksX8_due_1 23 rfl rfl
theorem dksX8_due_3 : cX8_due.data.toList.drop 68 = dktX8_due_3 := dk_seg dksX8_due_2 23 rfl rfl
theorem dX8_due_0 : decode cX8_due 0 = .ok (.aload_n 0, 1) := dk_42 (dk_at dksX8_due_0 0 rfl rfl)
theorem dX8_due_1 : decode cX8_due 1 = .ok (.iload_n 1, 1) := dk_27 (dk_at dksX8_due_0 1 rfl rfl)
theorem dX8_due_2 : decode cX8_due 2 = .ok (.invokevirtual 72, 3) := dk_182 0 72 (dk_at dksX8_due_0 2 rfl rfl)
theorem dX8_due_5 : decode cX8_due 5 = .ok (.astore_n 2, 1) := dk_77 (dk_at dksX8_due_0 5 rfl rfl)
theorem dX8_due_6 : decode cX8_due 6 = .ok (.aload_n 0, 1) := dk_42 (dk_at dksX8_due_0 6 rfl rfl)
theorem dX8_due_7 : decode cX8_due 7 = .ok (.getfield 29, 3) := dk_180 0 29 (dk_at dksX8_due_0 7 rfl rfl)
theorem dX8_due_10 : decode cX8_due 10 = .ok (.iload_n 1, 1) := dk_27 (dk_at dksX8_due_0 10 rfl rfl)
theorem dX8_due_11 : decode cX8_due 11 = .ok (.invokestatic 39, 3) := dk_184 0 39 (dk_at dksX8_due_0 11 rfl rfl)
theorem dX8_due_14 : decode cX8_due 14 = .ok (.ifCond .eq 16, 3) := dk_153 0 16 (dk_at dksX8_due_0 14 rfl rfl)
theorem dX8_due_17 : decode cX8_due 17 = .ok (.aload_n 2, 1) := dk_44 (dk_at dksX8_due_0 17 rfl rfl)
theorem dX8_due_18 : decode cX8_due 18 = .ok (.getfield 75, 3) := dk_180 0 75 (dk_at dksX8_due_0 18 rfl rfl)
theorem dX8_due_21 : decode cX8_due 21 = .ok (.iconst 2, 1) := dk_5 (dk_at dksX8_due_0 21 rfl rfl)
theorem dX8_due_22 : decode cX8_due 22 = .ok (.if_icmp .ge 8, 3) := dk_162 0 8 (dk_at dksX8_due_1 0 rfl rfl)
theorem dX8_due_25 : decode cX8_due 25 = .ok (.bipush 8, 2) := dk_16 8 (dk_at dksX8_due_1 3 rfl rfl)
theorem dX8_due_27 : decode cX8_due 27 = .ok (.goto 8, 3) := dk_167 0 8 (dk_at dksX8_due_1 5 rfl rfl)
theorem dX8_due_30 : decode cX8_due 30 = .ok (.aload_n 0, 1) := dk_42 (dk_at dksX8_due_1 8 rfl rfl)
theorem dX8_due_31 : decode cX8_due 31 = .ok (.iload_n 1, 1) := dk_27 (dk_at dksX8_due_1 9 rfl rfl)
theorem dX8_due_32 : decode cX8_due 32 = .ok (.invokevirtual 78, 3) := dk_182 0 78 (dk_at dksX8_due_1 10 rfl rfl)
theorem dX8_due_35 : decode cX8_due 35 = .ok (.istore_n 3, 1) := dk_62 (dk_at dksX8_due_1 13 rfl rfl)
theorem dX8_due_36 : decode cX8_due 36 = .ok (.iconst 0, 1) := dk_3 (dk_at dksX8_due_1 14 rfl rfl)
theorem dX8_due_37 : decode cX8_due 37 = .ok (.istore 4, 2) := dk_54 4 (dk_at dksX8_due_1 15 rfl rfl)
theorem dX8_due_39 : decode cX8_due 39 = .ok (.iconst 0, 1) := dk_3 (dk_at dksX8_due_1 17 rfl rfl)
theorem dX8_due_40 : decode cX8_due 40 = .ok (.istore 5, 2) := dk_54 5 (dk_at dksX8_due_1 18 rfl rfl)
theorem dX8_due_42 : decode cX8_due 42 = .ok (.iload 5, 2) := dk_21 5 (dk_at dksX8_due_1 20 rfl rfl)
theorem dX8_due_44 : decode cX8_due 44 = .ok (.iconst 5, 1) := dk_8 (dk_at dksX8_due_1 22 rfl rfl)
theorem dX8_due_45 : decode cX8_due 45 = .ok (.if_icmp .ge 36, 3) := dk_162 0 36 (dk_at dksX8_due_2 0 rfl rfl)
theorem dX8_due_48 : decode cX8_due 48 = .ok (.iload 4, 2) := dk_21 4 (dk_at dksX8_due_2 3 rfl rfl)
theorem dX8_due_50 : decode cX8_due 50 = .ok (.iload_n 3, 1) := dk_29 (dk_at dksX8_due_2 5 rfl rfl)
theorem dX8_due_51 : decode cX8_due 51 = .ok (.iload 5, 2) := dk_21 5 (dk_at dksX8_due_2 6 rfl rfl)
theorem dX8_due_53 : decode cX8_due 53 = .ok (.invokestatic 39, 3) := dk_184 0 39 (dk_at dksX8_due_2 8 rfl rfl)
theorem dX8_due_56 : decode cX8_due 56 = .ok (.ifCond .eq 15, 3) := dk_153 0 15 (dk_at dksX8_due_2 11 rfl rfl)
theorem dX8_due_59 : decode cX8_due 59 = .ok (.aload_n 2, 1) := dk_44 (dk_at dksX8_due_2 14 rfl rfl)
theorem dX8_due_60 : decode cX8_due 60 = .ok (.getfield 81, 3) := dk_180 0 81 (dk_at dksX8_due_2 15 rfl rfl)
theorem dX8_due_63 : decode cX8_due 63 = .ok (.iload 5, 2) := dk_21 5 (dk_at dksX8_due_2 18 rfl rfl)
theorem dX8_due_65 : decode cX8_due 65 = .ok (.invokestatic 85, 3) := dk_184 0 85 (dk_at dksX8_due_2 20 rfl rfl)
theorem dX8_due_68 : decode cX8_due 68 = .ok (.goto 4, 3) := dk_167 0 4 (dk_at dksX8_due_3 0 rfl rfl)
theorem dX8_due_71 : decode cX8_due 71 = .ok (.iconst 0, 1) := dk_3 (dk_at dksX8_due_3 3 rfl rfl)
theorem dX8_due_72 : decode cX8_due 72 = .ok (.ior, 1) := dk_128 (dk_at dksX8_due_3 4 rfl rfl)
theorem dX8_due_73 : decode cX8_due 73 = .ok (.istore 4, 2) := dk_54 4 (dk_at dksX8_due_3 5 rfl rfl)
theorem dX8_due_75 : decode cX8_due 75 = .ok (.iinc 5 1, 3) := dk_132 5 1 (dk_at dksX8_due_3 7 rfl rfl)
theorem dX8_due_78 : decode cX8_due 78 = .ok (.goto (-36), 3) := dk_167 255 220 (dk_at dksX8_due_3 10 rfl rfl)
theorem dX8_due_81 : decode cX8_due 81 = .ok (.iload 4, 2) := dk_21 4 (dk_at dksX8_due_3 13 rfl rfl)
theorem dX8_due_83 : decode cX8_due 83 = .ok (.ireturn, 1) := dk_172 (dk_at dksX8_due_3 15 rfl rfl)
abbrev cX8_findBarred : ByteArray := prog_5_method_12_code
def yX8_findBarred : MethodName := ⟨RX8, "findBarred", "(II)V"⟩
def dkwX8_findBarred_1 : List UInt8 := [182, 0, 111, 153, 0, 14, 42, 180, 0, 12, 5, 28, 27, 29, 182, 0, 107, 132, 3, 1, 167, 255, 215, 177]
abbrev dktX8_findBarred_1 : List UInt8 := dkwX8_findBarred_1 ++ []
def dkwX8_findBarred_0 : List UInt8 := [3, 62, 29, 16, 10, 162, 0, 41, 42, 182, 0, 89, 29, 184, 0, 39, 153, 0, 24, 42, 27, 28, 29]
abbrev dktX8_findBarred_0 : List UInt8 := dkwX8_findBarred_0 ++ dktX8_findBarred_1
theorem dksX8_findBarred_0 : cX8_findBarred.data.toList.drop 0 = dktX8_findBarred_0 := by decide +kernel
theorem dksX8_findBarred_1 : cX8_findBarred.data.toList.drop 23 = dktX8_findBarred_1 := dk_seg dksX8_findBarred_0 23 rfl rfl
theorem dX8_findBarred_0 : decode cX8_findBarred 0 = .ok (.iconst 0, 1) := dk_3 (dk_at dksX8_findBarred_0 0 rfl rfl)
theorem dX8_findBarred_1 : decode cX8_findBarred 1 = .ok (.istore_n 3, 1) := dk_62 (dk_at dksX8_findBarred_0 1 rfl rfl)
theorem dX8_findBarred_2 : decode cX8_findBarred 2 = .ok (.iload_n 3, 1) := dk_29 (dk_at dksX8_findBarred_0 2 rfl rfl)
theorem dX8_findBarred_3 : decode cX8_findBarred 3 = .ok (.bipush 10, 2) := dk_16 10 (dk_at dksX8_findBarred_0 3 rfl rfl)
theorem dX8_findBarred_5 : decode cX8_findBarred 5 = .ok (.if_icmp .ge 41, 3) := dk_162 0 41 (dk_at dksX8_findBarred_0 5 rfl rfl)
theorem dX8_findBarred_8 : decode cX8_findBarred 8 = .ok (.aload_n 0, 1) := dk_42 (dk_at dksX8_findBarred_0 8 rfl rfl)
theorem dX8_findBarred_9 : decode cX8_findBarred 9 = .ok (.invokevirtual 89, 3) := dk_182 0 89 (dk_at dksX8_findBarred_0 9 rfl rfl)
theorem dX8_findBarred_12 : decode cX8_findBarred 12 = .ok (.iload_n 3, 1) := dk_29 (dk_at dksX8_findBarred_0 12 rfl rfl)
theorem dX8_findBarred_13 : decode cX8_findBarred 13 = .ok (.invokestatic 39, 3) := dk_184 0 39 (dk_at dksX8_findBarred_0 13 rfl rfl)
theorem dX8_findBarred_16 : decode cX8_findBarred 16 = .ok (.ifCond .eq 24, 3) := dk_153 0 24 (dk_at dksX8_findBarred_0 16 rfl rfl)
theorem dX8_findBarred_19 : decode cX8_findBarred 19 = .ok (.aload_n 0, 1) := dk_42 (dk_at dksX8_findBarred_0 19 rfl rfl)
theorem dX8_findBarred_20 : decode cX8_findBarred 20 = .ok (.iload_n 1, 1) := dk_27 (dk_at dksX8_findBarred_0 20 rfl rfl)
theorem dX8_findBarred_21 : decode cX8_findBarred 21 = .ok (.iload_n 2, 1) := dk_28 (dk_at dksX8_findBarred_0 21 rfl rfl)
theorem dX8_findBarred_22 : decode cX8_findBarred 22 = .ok (.iload_n 3, 1) := dk_29 (dk_at dksX8_findBarred_0 22 rfl rfl)
theorem dX8_findBarred_23 : decode cX8_findBarred 23 = .ok (.invokevirtual 111, 3) := dk_182 0 111 (dk_at dksX8_findBarred_1 0 rfl rfl)
theorem dX8_findBarred_26 : decode cX8_findBarred 26 = .ok (.ifCond .eq 14, 3) := dk_153 0 14 (dk_at dksX8_findBarred_1 3 rfl rfl)
theorem dX8_findBarred_29 : decode cX8_findBarred 29 = .ok (.aload_n 0, 1) := dk_42 (dk_at dksX8_findBarred_1 6 rfl rfl)
theorem dX8_findBarred_30 : decode cX8_findBarred 30 = .ok (.getfield 12, 3) := dk_180 0 12 (dk_at dksX8_findBarred_1 7 rfl rfl)
theorem dX8_findBarred_33 : decode cX8_findBarred 33 = .ok (.iconst 2, 1) := dk_5 (dk_at dksX8_findBarred_1 10 rfl rfl)
theorem dX8_findBarred_34 : decode cX8_findBarred 34 = .ok (.iload_n 2, 1) := dk_28 (dk_at dksX8_findBarred_1 11 rfl rfl)
theorem dX8_findBarred_35 : decode cX8_findBarred 35 = .ok (.iload_n 1, 1) := dk_27 (dk_at dksX8_findBarred_1 12 rfl rfl)
theorem dX8_findBarred_36 : decode cX8_findBarred 36 = .ok (.iload_n 3, 1) := dk_29 (dk_at dksX8_findBarred_1 13 rfl rfl)
theorem dX8_findBarred_37 : decode cX8_findBarred 37 = .ok (.invokevirtual 107, 3) := dk_182 0 107 (dk_at dksX8_findBarred_1 14 rfl rfl)
theorem dX8_findBarred_40 : decode cX8_findBarred 40 = .ok (.iinc 3 1, 3) := dk_132 3 1 (dk_at dksX8_findBarred_1 17 rfl rfl)
theorem dX8_findBarred_43 : decode cX8_findBarred 43 = .ok (.goto (-41), 3) := dk_167 255 215 (dk_at dksX8_findBarred_1 20 rfl rfl)
theorem dX8_findBarred_46 : decode cX8_findBarred 46 = .ok (.return_, 1) := dk_177 (dk_at dksX8_findBarred_1 23 rfl rfl)
abbrev cX8_isBarred : ByteArray := prog_5_method_10_code
def yX8_isBarred : MethodName := ⟨RX8, "isBarred", "(III)Z"⟩
def dkwX8_isBarred_3 : List UInt8 := [153, 0, 22, 42, 29, 182, 0, 72, 180, 0, 97, 27, 184, 0, 39, 153, 0, 7, 4, 167, 0, 4, 3, 172]
abbrev dktX8_isBarred_3 : List UInt8 := dkwX8_isBarred_3 ++ []
def dkwX8_isBarred_2 : List UInt8 := [182, 0, 91, 27, 184, 0, 39, 153, 0, 39, 42, 28, 182, 0, 94, 29, 184, 0, 39, 153, 0, 27, 21, 4]
abbrev dktX8_isBarred_2 : List UInt8 := dkwX8_isBarred_2 ++ dktX8_isBarred_3
def dkwX8_isBarred_1 : List UInt8 := [29, 182, 0, 58, 192, 0, 64, 182, 0, 66, 159, 0, 7, 4, 167, 0, 4, 3, 54, 4, 42, 28]
abbrev dktX8_isBarred_1 : List UInt8 := dkwX8_isBarred_1 ++ dktX8_isBarred_2
def dkwX8_isBarred_0 : List UInt8 := [42, 180, 0, 18, 180, 0, 55, 28, 182, 0, 58, 192, 0, 64, 182, 0, 66, 42, 180, 0, 18, 180, 0, 55]
abbrev dktX8_isBarred_0 : List UInt8 := dkwX8_isBarred_0 ++ dktX8_isBarred_1
theorem dksX8_isBarred_0 : cX8_isBarred.data.toList.drop 0 = dktX8_isBarred_0 := by decide +kernel
theorem dksX8_isBarred_1 : cX8_isBarred.data.toList.drop 24 = dktX8_isBarred_1 := dk_seg dksX8_isBarred_0 24 rfl rfl
theorem dksX8_isBarred_2 : cX8_isBarred.data.toList.drop 46 = dktX8_isBarred_2 := dk_seg dksX8_isBarred_1 22 rfl rfl
theorem dksX8_isBarred_3 : cX8_isBarred.data.toList.drop 70 = dktX8_isBarred_3 := dk_seg dksX8_isBarred_2 24 rfl rfl
theorem dX8_isBarred_0 : decode cX8_isBarred 0 = .ok (.aload_n 0, 1) := dk_42 (dk_at dksX8_isBarred_0 0 rfl rfl)
theorem dX8_isBarred_1 : decode cX8_isBarred 1 = .ok (.getfield 18, 3) := dk_180 0 18 (dk_at dksX8_isBarred_0 1 rfl rfl)
theorem dX8_isBarred_4 : decode cX8_isBarred 4 = .ok (.getfield 55, 3) := dk_180 0 55 (dk_at dksX8_isBarred_0 4 rfl rfl)
theorem dX8_isBarred_7 : decode cX8_isBarred 7 = .ok (.iload_n 2, 1) := dk_28 (dk_at dksX8_isBarred_0 7 rfl rfl)
theorem dX8_isBarred_8 : decode cX8_isBarred 8 = .ok (.invokevirtual 58, 3) := dk_182 0 58 (dk_at dksX8_isBarred_0 8 rfl rfl)
theorem dX8_isBarred_11 : decode cX8_isBarred 11 = .ok (.checkcast 64, 3) := dk_192 0 64 (dk_at dksX8_isBarred_0 11 rfl rfl)
theorem dX8_isBarred_14 : decode cX8_isBarred 14 = .ok (.invokevirtual 66, 3) := dk_182 0 66 (dk_at dksX8_isBarred_0 14 rfl rfl)
theorem dX8_isBarred_17 : decode cX8_isBarred 17 = .ok (.aload_n 0, 1) := dk_42 (dk_at dksX8_isBarred_0 17 rfl rfl)
theorem dX8_isBarred_18 : decode cX8_isBarred 18 = .ok (.getfield 18, 3) := dk_180 0 18 (dk_at dksX8_isBarred_0 18 rfl rfl)
theorem dX8_isBarred_21 : decode cX8_isBarred 21 = .ok (.getfield 55, 3) := dk_180 0 55 (dk_at dksX8_isBarred_0 21 rfl rfl)
theorem dX8_isBarred_24 : decode cX8_isBarred 24 = .ok (.iload_n 3, 1) := dk_29 (dk_at dksX8_isBarred_1 0 rfl rfl)
theorem dX8_isBarred_25 : decode cX8_isBarred 25 = .ok (.invokevirtual 58, 3) := dk_182 0 58 (dk_at dksX8_isBarred_1 1 rfl rfl)
theorem dX8_isBarred_28 : decode cX8_isBarred 28 = .ok (.checkcast 64, 3) := dk_192 0 64 (dk_at dksX8_isBarred_1 4 rfl rfl)
theorem dX8_isBarred_31 : decode cX8_isBarred 31 = .ok (.invokevirtual 66, 3) := dk_182 0 66 (dk_at dksX8_isBarred_1 7 rfl rfl)
theorem dX8_isBarred_34 : decode cX8_isBarred 34 = .ok (.if_icmp .eq 7, 3) := dk_159 0 7 (dk_at dksX8_isBarred_1 10 rfl rfl)
theorem dX8_isBarred_37 : decode cX8_isBarred 37 = .ok (.iconst 1, 1) := dk_4 (dk_at dksX8_isBarred_1 13 rfl rfl)
theorem dX8_isBarred_38 : decode cX8_isBarred 38 = .ok (.goto 4, 3) := dk_167 0 4 (dk_at dksX8_isBarred_1 14 rfl rfl)
theorem dX8_isBarred_41 : decode cX8_isBarred 41 = .ok (.iconst 0, 1) := dk_3 (dk_at dksX8_isBarred_1 17 rfl rfl)
theorem dX8_isBarred_42 : decode cX8_isBarred 42 = .ok (.istore 4, 2) := dk_54 4 (dk_at dksX8_isBarred_1 18 rfl rfl)
theorem dX8_isBarred_44 : decode cX8_isBarred 44 = .ok (.aload_n 0, 1) := dk_42 (dk_at dksX8_isBarred_1 20 rfl rfl)
theorem dX8_isBarred_45 : decode cX8_isBarred 45 = .ok (.iload_n 2, 1) := dk_28 (dk_at dksX8_isBarred_1 21 rfl rfl)
theorem dX8_isBarred_46 : decode cX8_isBarred 46 = .ok (.invokevirtual 91, 3) := dk_182 0 91 (dk_at dksX8_isBarred_2 0 rfl rfl)
theorem dX8_isBarred_49 : decode cX8_isBarred 49 = .ok (.iload_n 1, 1) := dk_27 (dk_at dksX8_isBarred_2 3 rfl rfl)
theorem dX8_isBarred_50 : decode cX8_isBarred 50 = .ok (.invokestatic 39, 3) := dk_184 0 39 (dk_at dksX8_isBarred_2 4 rfl rfl)
theorem dX8_isBarred_53 : decode cX8_isBarred 53 = .ok (.ifCond .eq 39, 3) := dk_153 0 39 (dk_at dksX8_isBarred_2 7 rfl rfl)
theorem dX8_isBarred_56 : decode cX8_isBarred 56 = .ok (.aload_n 0, 1) := dk_42 (dk_at dksX8_isBarred_2 10 rfl rfl)
theorem dX8_isBarred_57 : decode cX8_isBarred 57 = .ok (.iload_n 2, 1) := dk_28 (dk_at dksX8_isBarred_2 11 rfl rfl)
theorem dX8_isBarred_58 : decode cX8_isBarred 58 = .ok (.invokevirtual 94, 3) := dk_182 0 94 (dk_at dksX8_isBarred_2 12 rfl rfl)
theorem dX8_isBarred_61 : decode cX8_isBarred 61 = .ok (.iload_n 3, 1) := dk_29 (dk_at dksX8_isBarred_2 15 rfl rfl)
theorem dX8_isBarred_62 : decode cX8_isBarred 62 = .ok (.invokestatic 39, 3) := dk_184 0 39 (dk_at dksX8_isBarred_2 16 rfl rfl)
theorem dX8_isBarred_65 : decode cX8_isBarred 65 = .ok (.ifCond .eq 27, 3) := dk_153 0 27 (dk_at dksX8_isBarred_2 19 rfl rfl)
theorem dX8_isBarred_68 : decode cX8_isBarred 68 = .ok (.iload 4, 2) := dk_21 4 (dk_at dksX8_isBarred_2 22 rfl rfl)
theorem dX8_isBarred_70 : decode cX8_isBarred 70 = .ok (.ifCond .eq 22, 3) := dk_153 0 22 (dk_at dksX8_isBarred_3 0 rfl rfl)
theorem dX8_isBarred_73 : decode cX8_isBarred 73 = .ok (.aload_n 0, 1) := dk_42 (dk_at dksX8_isBarred_3 3 rfl rfl)
theorem dX8_isBarred_74 : decode cX8_isBarred 74 = .ok (.iload_n 3, 1) := dk_29 (dk_at dksX8_isBarred_3 4 rfl rfl)
theorem dX8_isBarred_75 : decode cX8_isBarred 75 = .ok (.invokevirtual 72, 3) := dk_182 0 72 (dk_at dksX8_isBarred_3 5 rfl rfl)
theorem dX8_isBarred_78 : decode cX8_isBarred 78 = .ok (.getfield 97, 3) := dk_180 0 97 (dk_at dksX8_isBarred_3 8 rfl rfl)
theorem dX8_isBarred_81 : decode cX8_isBarred 81 = .ok (.iload_n 1, 1) := dk_27 (dk_at dksX8_isBarred_3 11 rfl rfl)
theorem dX8_isBarred_82 : decode cX8_isBarred 82 = .ok (.invokestatic 39, 3) := dk_184 0 39 (dk_at dksX8_isBarred_3 12 rfl rfl)
theorem dX8_isBarred_85 : decode cX8_isBarred 85 = .ok (.ifCond .eq 7, 3) := dk_153 0 7 (dk_at dksX8_isBarred_3 15 rfl rfl)
theorem dX8_isBarred_88 : decode cX8_isBarred 88 = .ok (.iconst 1, 1) := dk_4 (dk_at dksX8_isBarred_3 18 rfl rfl)
theorem dX8_isBarred_89 : decode cX8_isBarred 89 = .ok (.goto 4, 3) := dk_167 0 4 (dk_at dksX8_isBarred_3 19 rfl rfl)
theorem dX8_isBarred_92 : decode cX8_isBarred 92 = .ok (.iconst 0, 1) := dk_3 (dk_at dksX8_isBarred_3 22 rfl rfl)
theorem dX8_isBarred_93 : decode cX8_isBarred 93 = .ok (.ireturn, 1) := dk_172 (dk_at dksX8_isBarred_3 23 rfl rfl)
abbrev cX8_bound : ByteArray := prog_5_method_9_code
def yX8_bound : MethodName := ⟨RX8, "bound", "(I)I"⟩
def dkwX8_bound_3 : List UInt8 := [167, 0, 4, 3, 172, 42, 182, 0, 89, 4, 27, 120, 2, 130, 126, 172]
abbrev dktX8_bound_3 : List UInt8 := dkwX8_bound_3 ++ []
def dkwX8_bound_2 : List UInt8 := [3, 172, 42, 180, 0, 26, 27, 184, 0, 39, 153, 0, 16, 42, 180, 0, 26, 4, 27, 120, 2, 130, 126]
abbrev dktX8_bound_2 : List UInt8 := dkwX8_bound_2 ++ dktX8_bound_3
def dkwX8_bound_1 : List UInt8 := [171, 0, 0, 0, 0, 0, 0, 56, 0, 0, 0, 2, 0, 0, 0, 0, 0, 0, 0, 28, 0, 0, 0, 1, 0, 0, 0, 30]
abbrev dktX8_bound_1 : List UInt8 := dkwX8_bound_1 ++ dktX8_bound_2
def dkwX8_bound_0 : List UInt8 := [42, 27, 182, 0, 72, 180, 0, 75]
abbrev dktX8_bound_0 : List UInt8 := dkwX8_bound_0 ++ dktX8_bound_1
theorem dksX8_bound_0 : cX8_bound.data.toList.drop 0 = dktX8_bound_0 := by decide +kernel
theorem dksX8_bound_1 : cX8_bound.data.toList.drop 8 = dktX8_bound_1 := dk_seg dksX8_bound_0 8 rfl rfl
theorem dksX8_bound_2 : cX8_bound.data.toList.drop 36 = dktX8_bound_2 := dk_seg dksX8_bound_1 28 rfl rfl
theorem dksX8_bound_3 : cX8_bound.data.toList.drop 59 = dktX8_bound_3 := dk_seg dksX8_bound_2 23 rfl rfl
theorem dX8_bound_0 : decode cX8_bound 0 = .ok (.aload_n 0, 1) := dk_42 (dk_at dksX8_bound_0 0 rfl rfl)
theorem dX8_bound_1 : decode cX8_bound 1 = .ok (.iload_n 1, 1) := dk_27 (dk_at dksX8_bound_0 1 rfl rfl)
theorem dX8_bound_2 : decode cX8_bound 2 = .ok (.invokevirtual 72, 3) := dk_182 0 72 (dk_at dksX8_bound_0 2 rfl rfl)
theorem dX8_bound_5 : decode cX8_bound 5 = .ok (.getfield 75, 3) := dk_180 0 75 (dk_at dksX8_bound_0 5 rfl rfl)
theorem dX8_bound_8 : decode cX8_bound 8 = .ok (.lookupswitch 56 #[(0, 28), (1, 30)], 28) := by decide +kernel
theorem dX8_bound_36 : decode cX8_bound 36 = .ok (.iconst 0, 1) := dk_3 (dk_at dksX8_bound_2 0 rfl rfl)
theorem dX8_bound_37 : decode cX8_bound 37 = .ok (.ireturn, 1) := dk_172 (dk_at dksX8_bound_2 1 rfl rfl)
theorem dX8_bound_38 : decode cX8_bound 38 = .ok (.aload_n 0, 1) := dk_42 (dk_at dksX8_bound_2 2 rfl rfl)
theorem dX8_bound_39 : decode cX8_bound 39 = .ok (.getfield 26, 3) := dk_180 0 26 (dk_at dksX8_bound_2 3 rfl rfl)
theorem dX8_bound_42 : decode cX8_bound 42 = .ok (.iload_n 1, 1) := dk_27 (dk_at dksX8_bound_2 6 rfl rfl)
theorem dX8_bound_43 : decode cX8_bound 43 = .ok (.invokestatic 39, 3) := dk_184 0 39 (dk_at dksX8_bound_2 7 rfl rfl)
theorem dX8_bound_46 : decode cX8_bound 46 = .ok (.ifCond .eq 16, 3) := dk_153 0 16 (dk_at dksX8_bound_2 10 rfl rfl)
theorem dX8_bound_49 : decode cX8_bound 49 = .ok (.aload_n 0, 1) := dk_42 (dk_at dksX8_bound_2 13 rfl rfl)
theorem dX8_bound_50 : decode cX8_bound 50 = .ok (.getfield 26, 3) := dk_180 0 26 (dk_at dksX8_bound_2 14 rfl rfl)
theorem dX8_bound_53 : decode cX8_bound 53 = .ok (.iconst 1, 1) := dk_4 (dk_at dksX8_bound_2 17 rfl rfl)
theorem dX8_bound_54 : decode cX8_bound 54 = .ok (.iload_n 1, 1) := dk_27 (dk_at dksX8_bound_2 18 rfl rfl)
theorem dX8_bound_55 : decode cX8_bound 55 = .ok (.ishl, 1) := dk_120 (dk_at dksX8_bound_2 19 rfl rfl)
theorem dX8_bound_56 : decode cX8_bound 56 = .ok (.iconst (-1), 1) := dk_2 (dk_at dksX8_bound_2 20 rfl rfl)
theorem dX8_bound_57 : decode cX8_bound 57 = .ok (.ixor, 1) := dk_130 (dk_at dksX8_bound_2 21 rfl rfl)
theorem dX8_bound_58 : decode cX8_bound 58 = .ok (.iand, 1) := dk_126 (dk_at dksX8_bound_2 22 rfl rfl)
theorem dX8_bound_59 : decode cX8_bound 59 = .ok (.goto 4, 3) := dk_167 0 4 (dk_at dksX8_bound_3 0 rfl rfl)
theorem dX8_bound_62 : decode cX8_bound 62 = .ok (.iconst 0, 1) := dk_3 (dk_at dksX8_bound_3 3 rfl rfl)
theorem dX8_bound_63 : decode cX8_bound 63 = .ok (.ireturn, 1) := dk_172 (dk_at dksX8_bound_3 4 rfl rfl)
theorem dX8_bound_64 : decode cX8_bound 64 = .ok (.aload_n 0, 1) := dk_42 (dk_at dksX8_bound_3 5 rfl rfl)
theorem dX8_bound_65 : decode cX8_bound 65 = .ok (.invokevirtual 89, 3) := dk_182 0 89 (dk_at dksX8_bound_3 6 rfl rfl)
theorem dX8_bound_68 : decode cX8_bound 68 = .ok (.iconst 1, 1) := dk_4 (dk_at dksX8_bound_3 9 rfl rfl)
theorem dX8_bound_69 : decode cX8_bound 69 = .ok (.iload_n 1, 1) := dk_27 (dk_at dksX8_bound_3 10 rfl rfl)
theorem dX8_bound_70 : decode cX8_bound 70 = .ok (.ishl, 1) := dk_120 (dk_at dksX8_bound_3 11 rfl rfl)
theorem dX8_bound_71 : decode cX8_bound 71 = .ok (.iconst (-1), 1) := dk_2 (dk_at dksX8_bound_3 12 rfl rfl)
theorem dX8_bound_72 : decode cX8_bound 72 = .ok (.ixor, 1) := dk_130 (dk_at dksX8_bound_3 13 rfl rfl)
theorem dX8_bound_73 : decode cX8_bound 73 = .ok (.iand, 1) := dk_126 (dk_at dksX8_bound_3 14 rfl rfl)
theorem dX8_bound_74 : decode cX8_bound 74 = .ok (.ireturn, 1) := dk_172 (dk_at dksX8_bound_3 15 rfl rfl)
abbrev cX8_following : ByteArray := prog_5_method_18_code
def yX8_following : MethodName := ⟨RX8, "following", "(II)I"⟩
def dkwX8_following_1 : List UInt8 := [184, 0, 43, 28, 160, 0, 5, 29, 172, 132, 3, 1, 167, 255, 224, 2, 172]
abbrev dktX8_following_1 : List UInt8 := dkwX8_following_1 ++ []
def dkwX8_following_0 : List UInt8 := [27, 4, 96, 62, 29, 42, 182, 0, 89, 163, 0, 30, 29, 42, 182, 0, 89, 2, 130, 126, 154, 0, 13, 29]
abbrev dktX8_following_0 : List UInt8 := dkwX8_following_0 ++ dktX8_following_1
theorem dksX8_following_0 : cX8_following.data.toList.drop 0 = dktX8_following_0 := by decide +kernel
theorem dksX8_following_1 : cX8_following.data.toList.drop 24 = dktX8_following_1 := dk_seg dksX8_following_0 24 rfl rfl
theorem dX8_following_0 : decode cX8_following 0 = .ok (.iload_n 1, 1) := dk_27 (dk_at dksX8_following_0 0 rfl rfl)
theorem dX8_following_1 : decode cX8_following 1 = .ok (.iconst 1, 1) := dk_4 (dk_at dksX8_following_0 1 rfl rfl)
theorem dX8_following_2 : decode cX8_following 2 = .ok (.iadd, 1) := dk_96 (dk_at dksX8_following_0 2 rfl rfl)
theorem dX8_following_3 : decode cX8_following 3 = .ok (.istore_n 3, 1) := dk_62 (dk_at dksX8_following_0 3 rfl rfl)
theorem dX8_following_4 : decode cX8_following 4 = .ok (.iload_n 3, 1) := dk_29 (dk_at dksX8_following_0 4 rfl rfl)
theorem dX8_following_5 : decode cX8_following 5 = .ok (.aload_n 0, 1) := dk_42 (dk_at dksX8_following_0 5 rfl rfl)
theorem dX8_following_6 : decode cX8_following 6 = .ok (.invokevirtual 89, 3) := dk_182 0 89 (dk_at dksX8_following_0 6 rfl rfl)
theorem dX8_following_9 : decode cX8_following 9 = .ok (.if_icmp .gt 30, 3) := dk_163 0 30 (dk_at dksX8_following_0 9 rfl rfl)
theorem dX8_following_12 : decode cX8_following 12 = .ok (.iload_n 3, 1) := dk_29 (dk_at dksX8_following_0 12 rfl rfl)
theorem dX8_following_13 : decode cX8_following 13 = .ok (.aload_n 0, 1) := dk_42 (dk_at dksX8_following_0 13 rfl rfl)
theorem dX8_following_14 : decode cX8_following 14 = .ok (.invokevirtual 89, 3) := dk_182 0 89 (dk_at dksX8_following_0 14 rfl rfl)
theorem dX8_following_17 : decode cX8_following 17 = .ok (.iconst (-1), 1) := dk_2 (dk_at dksX8_following_0 17 rfl rfl)
theorem dX8_following_18 : decode cX8_following 18 = .ok (.ixor, 1) := dk_130 (dk_at dksX8_following_0 18 rfl rfl)
theorem dX8_following_19 : decode cX8_following 19 = .ok (.iand, 1) := dk_126 (dk_at dksX8_following_0 19 rfl rfl)
theorem dX8_following_20 : decode cX8_following 20 = .ok (.ifCond .ne 13, 3) := dk_154 0 13 (dk_at dksX8_following_0 20 rfl rfl)
theorem dX8_following_23 : decode cX8_following 23 = .ok (.iload_n 3, 1) := dk_29 (dk_at dksX8_following_0 23 rfl rfl)
theorem dX8_following_24 : decode cX8_following 24 = .ok (.invokestatic 43, 3) := dk_184 0 43 (dk_at dksX8_following_1 0 rfl rfl)
theorem dX8_following_27 : decode cX8_following 27 = .ok (.iload_n 2, 1) := dk_28 (dk_at dksX8_following_1 3 rfl rfl)
theorem dX8_following_28 : decode cX8_following 28 = .ok (.if_icmp .ne 5, 3) := dk_160 0 5 (dk_at dksX8_following_1 4 rfl rfl)
theorem dX8_following_31 : decode cX8_following 31 = .ok (.iload_n 3, 1) := dk_29 (dk_at dksX8_following_1 7 rfl rfl)
theorem dX8_following_32 : decode cX8_following 32 = .ok (.ireturn, 1) := dk_172 (dk_at dksX8_following_1 8 rfl rfl)
theorem dX8_following_33 : decode cX8_following 33 = .ok (.iinc 3 1, 3) := dk_132 3 1 (dk_at dksX8_following_1 9 rfl rfl)
theorem dX8_following_36 : decode cX8_following 36 = .ok (.goto (-32), 3) := dk_167 255 224 (dk_at dksX8_following_1 12 rfl rfl)
theorem dX8_following_39 : decode cX8_following 39 = .ok (.iconst (-1), 1) := dk_2 (dk_at dksX8_following_1 15 rfl rfl)
theorem dX8_following_40 : decode cX8_following 40 = .ok (.ireturn, 1) := dk_172 (dk_at dksX8_following_1 16 rfl rfl)
abbrev cX8_clashes : ByteArray := prog_5_method_14_code
def yX8_clashes : MethodName := ⟨RX8, "clashes", "()I"⟩
def dkwX8_clashes_0 : List UInt8 := [42, 180, 0, 12, 2, 18, 122, 182, 0, 123, 42, 182, 0, 126, 42, 180, 0, 12, 180, 0, 129, 172]
abbrev dktX8_clashes_0 : List UInt8 := dkwX8_clashes_0 ++ []
theorem dksX8_clashes_0 : cX8_clashes.data.toList.drop 0 = dktX8_clashes_0 := by decide +kernel
theorem dX8_clashes_0 : decode cX8_clashes 0 = .ok (.aload_n 0, 1) := dk_42 (dk_at dksX8_clashes_0 0 rfl rfl)
theorem dX8_clashes_1 : decode cX8_clashes 1 = .ok (.getfield 12, 3) := dk_180 0 12 (dk_at dksX8_clashes_0 1 rfl rfl)
theorem dX8_clashes_4 : decode cX8_clashes 4 = .ok (.iconst (-1), 1) := dk_2 (dk_at dksX8_clashes_0 4 rfl rfl)
theorem dX8_clashes_5 : decode cX8_clashes 5 = .ok (.ldc 122, 2) := dk_18 122 (dk_at dksX8_clashes_0 5 rfl rfl)
theorem dX8_clashes_7 : decode cX8_clashes 7 = .ok (.invokevirtual 123, 3) := dk_182 0 123 (dk_at dksX8_clashes_0 7 rfl rfl)
theorem dX8_clashes_10 : decode cX8_clashes 10 = .ok (.aload_n 0, 1) := dk_42 (dk_at dksX8_clashes_0 10 rfl rfl)
theorem dX8_clashes_11 : decode cX8_clashes 11 = .ok (.invokevirtual 126, 3) := dk_182 0 126 (dk_at dksX8_clashes_0 11 rfl rfl)
theorem dX8_clashes_14 : decode cX8_clashes 14 = .ok (.aload_n 0, 1) := dk_42 (dk_at dksX8_clashes_0 14 rfl rfl)
theorem dX8_clashes_15 : decode cX8_clashes 15 = .ok (.getfield 12, 3) := dk_180 0 12 (dk_at dksX8_clashes_0 15 rfl rfl)
theorem dX8_clashes_18 : decode cX8_clashes 18 = .ok (.getfield 129, 3) := dk_180 0 129 (dk_at dksX8_clashes_0 18 rfl rfl)
theorem dX8_clashes_21 : decode cX8_clashes 21 = .ok (.ireturn, 1) := dk_172 (dk_at dksX8_clashes_0 21 rfl rfl)
abbrev cX8_clash : ByteArray := prog_5_method_15_code
def yX8_clash : MethodName := ⟨RX8, "clash", "(I)LTermsDesk$Clash;"⟩
def dkwX8_clash_1 : List UInt8 := [180, 0, 132, 198, 0, 7, 4, 167, 0, 4, 3, 184, 0, 136, 42, 180, 0, 12, 180, 0, 132, 176]
abbrev dktX8_clash_1 : List UInt8 := dkwX8_clash_1 ++ []
def dkwX8_clash_0 : List UInt8 := [42, 180, 0, 12, 27, 18, 122, 182, 0, 123, 42, 182, 0, 126, 27, 155, 0, 17, 42, 180, 0, 12]
abbrev dktX8_clash_0 : List UInt8 := dkwX8_clash_0 ++ dktX8_clash_1
theorem dksX8_clash_0 : cX8_clash.data.toList.drop 0 = dktX8_clash_0 := by decide +kernel
theorem dksX8_clash_1 : cX8_clash.data.toList.drop 22 = dktX8_clash_1 := dk_seg dksX8_clash_0 22 rfl rfl
theorem dX8_clash_0 : decode cX8_clash 0 = .ok (.aload_n 0, 1) := dk_42 (dk_at dksX8_clash_0 0 rfl rfl)
theorem dX8_clash_1 : decode cX8_clash 1 = .ok (.getfield 12, 3) := dk_180 0 12 (dk_at dksX8_clash_0 1 rfl rfl)
theorem dX8_clash_4 : decode cX8_clash 4 = .ok (.iload_n 1, 1) := dk_27 (dk_at dksX8_clash_0 4 rfl rfl)
theorem dX8_clash_5 : decode cX8_clash 5 = .ok (.ldc 122, 2) := dk_18 122 (dk_at dksX8_clash_0 5 rfl rfl)
theorem dX8_clash_7 : decode cX8_clash 7 = .ok (.invokevirtual 123, 3) := dk_182 0 123 (dk_at dksX8_clash_0 7 rfl rfl)
theorem dX8_clash_10 : decode cX8_clash 10 = .ok (.aload_n 0, 1) := dk_42 (dk_at dksX8_clash_0 10 rfl rfl)
theorem dX8_clash_11 : decode cX8_clash 11 = .ok (.invokevirtual 126, 3) := dk_182 0 126 (dk_at dksX8_clash_0 11 rfl rfl)
theorem dX8_clash_14 : decode cX8_clash 14 = .ok (.iload_n 1, 1) := dk_27 (dk_at dksX8_clash_0 14 rfl rfl)
theorem dX8_clash_15 : decode cX8_clash 15 = .ok (.ifCond .lt 17, 3) := dk_155 0 17 (dk_at dksX8_clash_0 15 rfl rfl)
theorem dX8_clash_18 : decode cX8_clash 18 = .ok (.aload_n 0, 1) := dk_42 (dk_at dksX8_clash_0 18 rfl rfl)
theorem dX8_clash_19 : decode cX8_clash 19 = .ok (.getfield 12, 3) := dk_180 0 12 (dk_at dksX8_clash_0 19 rfl rfl)
theorem dX8_clash_22 : decode cX8_clash 22 = .ok (.getfield 132, 3) := dk_180 0 132 (dk_at dksX8_clash_1 0 rfl rfl)
theorem dX8_clash_25 : decode cX8_clash 25 = .ok (.ifnull 7, 3) := dk_198 0 7 (dk_at dksX8_clash_1 3 rfl rfl)
theorem dX8_clash_28 : decode cX8_clash 28 = .ok (.iconst 1, 1) := dk_4 (dk_at dksX8_clash_1 6 rfl rfl)
theorem dX8_clash_29 : decode cX8_clash 29 = .ok (.goto 4, 3) := dk_167 0 4 (dk_at dksX8_clash_1 7 rfl rfl)
theorem dX8_clash_32 : decode cX8_clash 32 = .ok (.iconst 0, 1) := dk_3 (dk_at dksX8_clash_1 10 rfl rfl)
theorem dX8_clash_33 : decode cX8_clash 33 = .ok (.invokestatic 136, 3) := dk_184 0 136 (dk_at dksX8_clash_1 11 rfl rfl)
theorem dX8_clash_36 : decode cX8_clash 36 = .ok (.aload_n 0, 1) := dk_42 (dk_at dksX8_clash_1 14 rfl rfl)
theorem dX8_clash_37 : decode cX8_clash 37 = .ok (.getfield 12, 3) := dk_180 0 12 (dk_at dksX8_clash_1 15 rfl rfl)
theorem dX8_clash_40 : decode cX8_clash 40 = .ok (.getfield 132, 3) := dk_180 0 132 (dk_at dksX8_clash_1 18 rfl rfl)
theorem dX8_clash_43 : decode cX8_clash 43 = .ok (.areturn, 1) := dk_176 (dk_at dksX8_clash_1 21 rfl rfl)
abbrev cX8_due_2 : ByteArray := prog_5_method_8_code
def yX8_due_2 : MethodName := ⟨RX8, "due", "()I"⟩
def dkwX8_due_2_1 : List UInt8 := [182, 0, 91, 167, 0, 4, 3, 128, 60, 132, 2, 1, 167, 255, 224, 27, 172]
abbrev dktX8_due_2_1 : List UInt8 := dkwX8_due_2_1 ++ []
def dkwX8_due_2_0 : List UInt8 := [3, 60, 3, 61, 28, 16, 10, 162, 0, 32, 27, 42, 182, 0, 89, 28, 184, 0, 39, 153, 0, 11, 42, 28]
abbrev dktX8_due_2_0 : List UInt8 := dkwX8_due_2_0 ++ dktX8_due_2_1
theorem dksX8_due_2_0 : cX8_due_2.data.toList.drop 0 = dktX8_due_2_0 := by decide +kernel
theorem dksX8_due_2_1 : cX8_due_2.data.toList.drop 24 = dktX8_due_2_1 := dk_seg dksX8_due_2_0 24 rfl rfl
theorem dX8_due_2_0 : decode cX8_due_2 0 = .ok (.iconst 0, 1) := dk_3 (dk_at dksX8_due_2_0 0 rfl rfl)
theorem dX8_due_2_1 : decode cX8_due_2 1 = .ok (.istore_n 1, 1) := dk_60 (dk_at dksX8_due_2_0 1 rfl rfl)
theorem dX8_due_2_2 : decode cX8_due_2 2 = .ok (.iconst 0, 1) := dk_3 (dk_at dksX8_due_2_0 2 rfl rfl)
theorem dX8_due_2_3 : decode cX8_due_2 3 = .ok (.istore_n 2, 1) := dk_61 (dk_at dksX8_due_2_0 3 rfl rfl)
theorem dX8_due_2_4 : decode cX8_due_2 4 = .ok (.iload_n 2, 1) := dk_28 (dk_at dksX8_due_2_0 4 rfl rfl)
theorem dX8_due_2_5 : decode cX8_due_2 5 = .ok (.bipush 10, 2) := dk_16 10 (dk_at dksX8_due_2_0 5 rfl rfl)
theorem dX8_due_2_7 : decode cX8_due_2 7 = .ok (.if_icmp .ge 32, 3) := dk_162 0 32 (dk_at dksX8_due_2_0 7 rfl rfl)
theorem dX8_due_2_10 : decode cX8_due_2 10 = .ok (.iload_n 1, 1) := dk_27 (dk_at dksX8_due_2_0 10 rfl rfl)
theorem dX8_due_2_11 : decode cX8_due_2 11 = .ok (.aload_n 0, 1) := dk_42 (dk_at dksX8_due_2_0 11 rfl rfl)
theorem dX8_due_2_12 : decode cX8_due_2 12 = .ok (.invokevirtual 89, 3) := dk_182 0 89 (dk_at dksX8_due_2_0 12 rfl rfl)
theorem dX8_due_2_15 : decode cX8_due_2 15 = .ok (.iload_n 2, 1) := dk_28 (dk_at dksX8_due_2_0 15 rfl rfl)
theorem dX8_due_2_16 : decode cX8_due_2 16 = .ok (.invokestatic 39, 3) := dk_184 0 39 (dk_at dksX8_due_2_0 16 rfl rfl)
theorem dX8_due_2_19 : decode cX8_due_2 19 = .ok (.ifCond .eq 11, 3) := dk_153 0 11 (dk_at dksX8_due_2_0 19 rfl rfl)
theorem dX8_due_2_22 : decode cX8_due_2 22 = .ok (.aload_n 0, 1) := dk_42 (dk_at dksX8_due_2_0 22 rfl rfl)
theorem dX8_due_2_23 : decode cX8_due_2 23 = .ok (.iload_n 2, 1) := dk_28 (dk_at dksX8_due_2_0 23 rfl rfl)
theorem dX8_due_2_24 : decode cX8_due_2 24 = .ok (.invokevirtual 91, 3) := dk_182 0 91 (dk_at dksX8_due_2_1 0 rfl rfl)
theorem dX8_due_2_27 : decode cX8_due_2 27 = .ok (.goto 4, 3) := dk_167 0 4 (dk_at dksX8_due_2_1 3 rfl rfl)
theorem dX8_due_2_30 : decode cX8_due_2 30 = .ok (.iconst 0, 1) := dk_3 (dk_at dksX8_due_2_1 6 rfl rfl)
theorem dX8_due_2_31 : decode cX8_due_2 31 = .ok (.ior, 1) := dk_128 (dk_at dksX8_due_2_1 7 rfl rfl)
theorem dX8_due_2_32 : decode cX8_due_2 32 = .ok (.istore_n 1, 1) := dk_60 (dk_at dksX8_due_2_1 8 rfl rfl)
theorem dX8_due_2_33 : decode cX8_due_2 33 = .ok (.iinc 2 1, 3) := dk_132 2 1 (dk_at dksX8_due_2_1 9 rfl rfl)
theorem dX8_due_2_36 : decode cX8_due_2 36 = .ok (.goto (-32), 3) := dk_167 255 224 (dk_at dksX8_due_2_1 12 rfl rfl)
theorem dX8_due_2_39 : decode cX8_due_2 39 = .ok (.iload_n 1, 1) := dk_27 (dk_at dksX8_due_2_1 15 rfl rfl)
theorem dX8_due_2_40 : decode cX8_due_2 40 = .ok (.ireturn, 1) := dk_172 (dk_at dksX8_due_2_1 16 rfl rfl)
theorem q99 : (Jvm.Cond.initialized "TermsDesk$Deed") ∈ lw_all := lw_g (lw_at lw_m1 31 rfl) rfl
theorem q173 : (Jvm.Cond.fieldLinkNest "TermsDesk$Deed" (49 : Nat) "TermsDesk$Desk" "licences" "LTermsDesk$Shelf;" "TermsDesk") ∈ lw_tbl := lw_at lw_m1 105 rfl
theorem q176 : (Jvm.Cond.fieldLinkNest "TermsDesk$Deed" (55 : Nat) "TermsDesk$Desk" "files" "LTermsDesk$Shelf;" "TermsDesk") ∈ lw_tbl := lw_at lw_m1 108 rfl
theorem q299 : (Jvm.Cond.instantiable "TermsDesk$Deed" (5 : Nat)) ∈ lw_all := lw_g (lw_at lw_m1 231 rfl) rfl
theorem q419 : (Jvm.Cond.instanceMethod ({ cls := "TermsDesk$Deed", name := "<init>", desc := "(LTermsDesk$Desk;III)V" } : Jvm.MethodName)) ∈ lw_all := lw_g (lw_at lw_m2 111 rfl) rfl
theorem q420 : (Jvm.Cond.code ({ cls := "TermsDesk$Deed", name := "<init>", desc := "(LTermsDesk$Desk;III)V" } : Jvm.MethodName) prog_5_method_1_code (5 : Nat) (Option.none : Option Jvm.ClassFile.FieldType)) ∈ lw_all := lw_g (lw_at lw_m2 112 rfl) rfl
theorem q421 : (Jvm.Cond.methodLink "TermsDesk$Deed" (3 : Nat) ({ cls := "java/lang/Object", name := "<init>", desc := "()V" } : Jvm.MethodName)) ∈ lw_all := lw_g (lw_at lw_m2 113 rfl) rfl
theorem q422 : (Jvm.Cond.classLink "TermsDesk$Deed" (9 : Nat) "TermsDesk$Search") ∈ lw_all := lw_g (lw_at lw_m2 114 rfl) rfl
theorem q424 : (Jvm.Cond.methodLinkNest "TermsDesk$Deed" (11 : Nat) ({ cls := "TermsDesk$Search", name := "<init>", desc := "()V" } : Jvm.MethodName) "TermsDesk") ∈ lw_tbl := lw_at lw_m2 116 rfl
theorem q431 : (Jvm.Cond.fieldLinkNest "TermsDesk$Deed" (129 : Nat) "TermsDesk$Search" "count" "I" "TermsDesk") ∈ lw_tbl := lw_at lw_m2 123 rfl
theorem q433 : (Jvm.Cond.fieldLinkNest "TermsDesk$Deed" (132 : Nat) "TermsDesk$Search" "found" "LTermsDesk$Clash;" "TermsDesk") ∈ lw_tbl := lw_at lw_m2 125 rfl
theorem q443 : (Jvm.Cond.fieldLink "TermsDesk$Deed" (18 : Nat) "TermsDesk$Deed" "desk" "LTermsDesk$Desk;") ∈ lw_all := lw_g (lw_at lw_m2 135 rfl) rfl
theorem q444 : (Jvm.Cond.fieldLink "TermsDesk$Deed" (22 : Nat) "TermsDesk$Deed" "act" "I") ∈ lw_all := lw_g (lw_at lw_m2 136 rfl) rfl
theorem q445 : (Jvm.Cond.fieldLink "TermsDesk$Deed" (12 : Nat) "TermsDesk$Deed" "search" "LTermsDesk$Search;") ∈ lw_all := lw_g (lw_at lw_m2 137 rfl) rfl
theorem q446 : (Jvm.Cond.fieldLink "TermsDesk$Deed" (26 : Nat) "TermsDesk$Deed" "near" "I") ∈ lw_all := lw_g (lw_at lw_m2 138 rfl) rfl
theorem q447 : (Jvm.Cond.fieldLink "TermsDesk$Deed" (29 : Nat) "TermsDesk$Deed" "far" "I") ∈ lw_all := lw_g (lw_at lw_m2 139 rfl) rfl
theorem q448 : (Jvm.Cond.laysFinal "TermsDesk$Deed" "TermsDesk$Deed" "desk" "LTermsDesk$Desk;") ∈ lw_all := lw_g (lw_at lw_m2 140 rfl) rfl
theorem q449 : (Jvm.Cond.soleField "TermsDesk$Deed" "desk") ∈ lw_all := lw_g (lw_at lw_m2 141 rfl) rfl
theorem q450 : (Jvm.Cond.laysFinal "TermsDesk$Deed" "TermsDesk$Deed" "act" "I") ∈ lw_all := lw_g (lw_at lw_m2 142 rfl) rfl
theorem q451 : (Jvm.Cond.soleField "TermsDesk$Deed" "act") ∈ lw_all := lw_g (lw_at lw_m2 143 rfl) rfl
theorem q452 : (Jvm.Cond.laysFinal "TermsDesk$Deed" "TermsDesk$Deed" "search" "LTermsDesk$Search;") ∈ lw_all := lw_g (lw_at lw_m2 144 rfl) rfl
theorem q453 : (Jvm.Cond.soleField "TermsDesk$Deed" "search") ∈ lw_all := lw_g (lw_at lw_m2 145 rfl) rfl
theorem q454 : (Jvm.Cond.lays "TermsDesk$Deed" "TermsDesk$Deed" "near" "I") ∈ lw_all := lw_g (lw_at lw_m2 146 rfl) rfl
theorem q455 : (Jvm.Cond.soleField "TermsDesk$Deed" "near") ∈ lw_all := lw_g (lw_at lw_m2 147 rfl) rfl
theorem q456 : (Jvm.Cond.lays "TermsDesk$Deed" "TermsDesk$Deed" "far" "I") ∈ lw_all := lw_g (lw_at lw_m2 148 rfl) rfl
theorem q457 : (Jvm.Cond.soleField "TermsDesk$Deed" "far") ∈ lw_all := lw_g (lw_at lw_m2 149 rfl) rfl
theorem q458 : (Jvm.Cond.superclass "TermsDesk$Deed" "java/lang/Object") ∈ lw_all := lw_g (lw_at lw_m2 150 rfl) rfl
theorem q460 : (Jvm.Cond.instanceMethod ({ cls := "TermsDesk$Deed", name := "least", desc := "()I" } : Jvm.MethodName)) ∈ lw_all := lw_g (lw_at lw_m2 152 rfl) rfl
theorem q461 : (Jvm.Cond.selects "TermsDesk$Deed" ({ cls := "TermsDesk$Deed", name := "least", desc := "()I" } : Jvm.MethodName) ({ cls := "TermsDesk$Deed", name := "least", desc := "()I" } : Jvm.MethodName)) ∈ lw_all := lw_g (lw_at lw_m2 153 rfl) rfl
theorem q462 : (Jvm.Cond.code ({ cls := "TermsDesk$Deed", name := "least", desc := "()I" } : Jvm.MethodName) prog_5_method_17_code (5 : Nat) (Option.some Jvm.ClassFile.FieldType.int)) ∈ lw_all := lw_g (lw_at lw_m2 154 rfl) rfl
theorem q463 : (Jvm.Cond.methodLink "TermsDesk$Deed" (140 : Nat) ({ cls := "TermsDesk$Deed", name := "without", desc := "(I)LTermsDesk$Deed;" } : Jvm.MethodName)) ∈ lw_all := lw_g (lw_at lw_m2 155 rfl) rfl
theorem q464 : (Jvm.Cond.instanceMethod ({ cls := "TermsDesk$Deed", name := "without", desc := "(I)LTermsDesk$Deed;" } : Jvm.MethodName)) ∈ lw_all := lw_g (lw_at lw_m2 156 rfl) rfl
theorem q465 : (Jvm.Cond.selects "TermsDesk$Deed" ({ cls := "TermsDesk$Deed", name := "without", desc := "(I)LTermsDesk$Deed;" } : Jvm.MethodName) ({ cls := "TermsDesk$Deed", name := "without", desc := "(I)LTermsDesk$Deed;" } : Jvm.MethodName)) ∈ lw_all := lw_g (lw_at lw_m2 157 rfl) rfl
theorem q466 : (Jvm.Cond.code ({ cls := "TermsDesk$Deed", name := "without", desc := "(I)LTermsDesk$Deed;" } : Jvm.MethodName) prog_5_method_3_code (2 : Nat) (Option.some (Jvm.ClassFile.FieldType.object "TermsDesk$Deed"))) ∈ lw_all := lw_g (lw_at lw_m2 158 rfl) rfl
theorem q467 : (Jvm.Cond.classLink "TermsDesk$Deed" (13 : Nat) "TermsDesk$Deed") ∈ lw_all := lw_g (lw_at lw_m2 159 rfl) rfl
theorem q468 : (Jvm.Cond.methodLink "TermsDesk$Deed" (32 : Nat) ({ cls := "TermsDesk$Deed", name := "<init>", desc := "(LTermsDesk$Desk;III)V" } : Jvm.MethodName)) ∈ lw_all := lw_g (lw_at lw_m2 160 rfl) rfl
theorem q469 : (Jvm.Cond.methodLink "TermsDesk$Deed" (35 : Nat) ({ cls := "TermsDesk$Deed", name := "become", desc := "(LTermsDesk$Deed;I)LTermsDesk$Deed;" } : Jvm.MethodName)) ∈ lw_all := lw_g (lw_at lw_m2 161 rfl) rfl
theorem q470 : (Jvm.Cond.privateMethod ({ cls := "TermsDesk$Deed", name := "become", desc := "(LTermsDesk$Deed;I)LTermsDesk$Deed;" } : Jvm.MethodName)) ∈ lw_tbl := lw_at lw_m2 162 rfl
theorem q471 : (Jvm.Cond.instanceMethod ({ cls := "TermsDesk$Deed", name := "become", desc := "(LTermsDesk$Deed;I)LTermsDesk$Deed;" } : Jvm.MethodName)) ∈ lw_all := lw_g (lw_at lw_m2 163 rfl) rfl
theorem q472 : (Jvm.Cond.code ({ cls := "TermsDesk$Deed", name := "become", desc := "(LTermsDesk$Deed;I)LTermsDesk$Deed;" } : Jvm.MethodName) prog_5_method_2_code (3 : Nat) (Option.some (Jvm.ClassFile.FieldType.object "TermsDesk$Deed"))) ∈ lw_all := lw_g (lw_at lw_m2 164 rfl) rfl
theorem q473 : (Jvm.Cond.methodLink "TermsDesk$Deed" (144 : Nat) ({ cls := "TermsDesk$Deed", name := "isClear", desc := "()Z" } : Jvm.MethodName)) ∈ lw_all := lw_g (lw_at lw_m2 165 rfl) rfl
theorem q474 : (Jvm.Cond.instanceMethod ({ cls := "TermsDesk$Deed", name := "isClear", desc := "()Z" } : Jvm.MethodName)) ∈ lw_all := lw_g (lw_at lw_m2 166 rfl) rfl
theorem q475 : (Jvm.Cond.selects "TermsDesk$Deed" ({ cls := "TermsDesk$Deed", name := "isClear", desc := "()Z" } : Jvm.MethodName) ({ cls := "TermsDesk$Deed", name := "isClear", desc := "()Z" } : Jvm.MethodName)) ∈ lw_all := lw_g (lw_at lw_m2 167 rfl) rfl
theorem q476 : (Jvm.Cond.code ({ cls := "TermsDesk$Deed", name := "isClear", desc := "()Z" } : Jvm.MethodName) prog_5_method_16_code (1 : Nat) (Option.some Jvm.ClassFile.FieldType.boolean)) ∈ lw_all := lw_g (lw_at lw_m2 168 rfl) rfl
theorem q477 : (Jvm.Cond.methodLink "TermsDesk$Deed" (123 : Nat) ({ cls := "TermsDesk$Search", name := "begin", desc := "(II)V" } : Jvm.MethodName)) ∈ lw_all := lw_g (lw_at lw_m2 169 rfl) rfl
theorem q481 : (Jvm.Cond.methodLink "TermsDesk$Deed" (126 : Nat) ({ cls := "TermsDesk$Deed", name := "findAll", desc := "()V" } : Jvm.MethodName)) ∈ lw_all := lw_g (lw_at lw_m2 173 rfl) rfl
theorem q482 : (Jvm.Cond.privateMethod ({ cls := "TermsDesk$Deed", name := "findAll", desc := "()V" } : Jvm.MethodName)) ∈ lw_tbl := lw_at lw_m2 174 rfl
theorem q483 : (Jvm.Cond.instanceMethod ({ cls := "TermsDesk$Deed", name := "findAll", desc := "()V" } : Jvm.MethodName)) ∈ lw_all := lw_g (lw_at lw_m2 175 rfl) rfl
theorem q484 : (Jvm.Cond.code ({ cls := "TermsDesk$Deed", name := "findAll", desc := "()V" } : Jvm.MethodName) prog_5_method_13_code (3 : Nat) (Option.none : Option Jvm.ClassFile.FieldType)) ∈ lw_all := lw_g (lw_at lw_m2 176 rfl) rfl
theorem q485 : (Jvm.Cond.methodLink "TermsDesk$Deed" (115 : Nat) ({ cls := "TermsDesk$Deed", name := "findUnpermitted", desc := "()V" } : Jvm.MethodName)) ∈ lw_all := lw_g (lw_at lw_m2 177 rfl) rfl
theorem q486 : (Jvm.Cond.privateMethod ({ cls := "TermsDesk$Deed", name := "findUnpermitted", desc := "()V" } : Jvm.MethodName)) ∈ lw_tbl := lw_at lw_m2 178 rfl
theorem q487 : (Jvm.Cond.instanceMethod ({ cls := "TermsDesk$Deed", name := "findUnpermitted", desc := "()V" } : Jvm.MethodName)) ∈ lw_all := lw_g (lw_at lw_m2 179 rfl) rfl
theorem q488 : (Jvm.Cond.code ({ cls := "TermsDesk$Deed", name := "findUnpermitted", desc := "()V" } : Jvm.MethodName) prog_5_method_11_code (3 : Nat) (Option.none : Option Jvm.ClassFile.FieldType)) ∈ lw_all := lw_g (lw_at lw_m2 180 rfl) rfl
theorem q489 : (Jvm.Cond.methodLink "TermsDesk$Deed" (100 : Nat) ({ cls := "TermsDesk$Search", name := "goesOn", desc := "()Z" } : Jvm.MethodName)) ∈ lw_all := lw_g (lw_at lw_m2 181 rfl) rfl
theorem q493 : (Jvm.Cond.methodLink "TermsDesk$Deed" (89 : Nat) ({ cls := "TermsDesk$Deed", name := "files", desc := "()I" } : Jvm.MethodName)) ∈ lw_all := lw_g (lw_at lw_m2 185 rfl) rfl
theorem q494 : (Jvm.Cond.instanceMethod ({ cls := "TermsDesk$Deed", name := "files", desc := "()I" } : Jvm.MethodName)) ∈ lw_all := lw_g (lw_at lw_m2 186 rfl) rfl
theorem q495 : (Jvm.Cond.selects "TermsDesk$Deed" ({ cls := "TermsDesk$Deed", name := "files", desc := "()I" } : Jvm.MethodName) ({ cls := "TermsDesk$Deed", name := "files", desc := "()I" } : Jvm.MethodName)) ∈ lw_all := lw_g (lw_at lw_m2 187 rfl) rfl
theorem q496 : (Jvm.Cond.code ({ cls := "TermsDesk$Deed", name := "files", desc := "()I" } : Jvm.MethodName) prog_5_method_4_code (1 : Nat) (Option.some Jvm.ClassFile.FieldType.int)) ∈ lw_all := lw_g (lw_at lw_m2 188 rfl) rfl
theorem q497 : (Jvm.Cond.methodLinkNest "TermsDesk$Deed" (39 : Nat) ({ cls := "TermsDesk", name := "has", desc := "(II)Z" } : Jvm.MethodName) "TermsDesk") ∈ lw_tbl := lw_at lw_m2 189 rfl
theorem q498 : (Jvm.Cond.methodLink "TermsDesk$Deed" (78 : Nat) ({ cls := "TermsDesk$Deed", name := "acts", desc := "(I)I" } : Jvm.MethodName)) ∈ lw_all := lw_g (lw_at lw_m2 190 rfl) rfl
theorem q499 : (Jvm.Cond.privateMethod ({ cls := "TermsDesk$Deed", name := "acts", desc := "(I)I" } : Jvm.MethodName)) ∈ lw_tbl := lw_at lw_m2 191 rfl
theorem q500 : (Jvm.Cond.instanceMethod ({ cls := "TermsDesk$Deed", name := "acts", desc := "(I)I" } : Jvm.MethodName)) ∈ lw_all := lw_g (lw_at lw_m2 192 rfl) rfl
theorem q501 : (Jvm.Cond.code ({ cls := "TermsDesk$Deed", name := "acts", desc := "(I)I" } : Jvm.MethodName) prog_5_method_5_code (3 : Nat) (Option.some Jvm.ClassFile.FieldType.int)) ∈ lw_all := lw_g (lw_at lw_m2 193 rfl) rfl
theorem q502 : (Jvm.Cond.methodLink "TermsDesk$Deed" (43 : Nat) ({ cls := "java/lang/Integer", name := "bitCount", desc := "(I)I" } : Jvm.MethodName)) ∈ lw_all := lw_g (lw_at lw_m2 194 rfl) rfl
theorem q508 : (Jvm.Cond.methodLink "TermsDesk$Deed" (72 : Nat) ({ cls := "TermsDesk$Deed", name := "licence", desc := "(I)LTermsDesk$Licence;" } : Jvm.MethodName)) ∈ lw_all := lw_g (lw_at lw_m2 200 rfl) rfl
theorem q509 : (Jvm.Cond.privateMethod ({ cls := "TermsDesk$Deed", name := "licence", desc := "(I)LTermsDesk$Licence;" } : Jvm.MethodName)) ∈ lw_tbl := lw_at lw_m2 201 rfl
theorem q510 : (Jvm.Cond.instanceMethod ({ cls := "TermsDesk$Deed", name := "licence", desc := "(I)LTermsDesk$Licence;" } : Jvm.MethodName)) ∈ lw_all := lw_g (lw_at lw_m2 202 rfl) rfl
theorem q511 : (Jvm.Cond.code ({ cls := "TermsDesk$Deed", name := "licence", desc := "(I)LTermsDesk$Licence;" } : Jvm.MethodName) prog_5_method_6_code (2 : Nat) (Option.some (Jvm.ClassFile.FieldType.object "TermsDesk$Licence"))) ∈ lw_all := lw_g (lw_at lw_m2 203 rfl) rfl
theorem q512 : (Jvm.Cond.methodLink "TermsDesk$Deed" (58 : Nat) ({ cls := "TermsDesk$Shelf", name := "get", desc := "(I)Ljava/lang/Object;" } : Jvm.MethodName)) ∈ lw_all := lw_g (lw_at lw_m2 204 rfl) rfl
theorem q513 : (Jvm.Cond.classLink "TermsDesk$Deed" (64 : Nat) "TermsDesk$Source") ∈ lw_all := lw_g (lw_at lw_m2 205 rfl) rfl
theorem q514 : (Jvm.Cond.methodLink "TermsDesk$Deed" (66 : Nat) ({ cls := "TermsDesk$Source", name := "licence", desc := "()I" } : Jvm.MethodName)) ∈ lw_all := lw_g (lw_at lw_m2 206 rfl) rfl
theorem q518 : (Jvm.Cond.classLink "TermsDesk$Deed" (70 : Nat) "TermsDesk$Licence") ∈ lw_all := lw_g (lw_at lw_m2 210 rfl) rfl
theorem q519 : (Jvm.Cond.methodLink "TermsDesk$Deed" (107 : Nat) ({ cls := "TermsDesk$Search", name := "find", desc := "(IIII)V" } : Jvm.MethodName)) ∈ lw_all := lw_g (lw_at lw_m2 211 rfl) rfl
theorem q542 : (Jvm.Cond.methodLink "TermsDesk$Deed" (91 : Nat) ({ cls := "TermsDesk$Deed", name := "due", desc := "(I)I" } : Jvm.MethodName)) ∈ lw_all := lw_g (lw_at lw_m2 234 rfl) rfl
theorem q543 : (Jvm.Cond.instanceMethod ({ cls := "TermsDesk$Deed", name := "due", desc := "(I)I" } : Jvm.MethodName)) ∈ lw_all := lw_g (lw_at lw_m2 235 rfl) rfl
theorem q544 : (Jvm.Cond.selects "TermsDesk$Deed" ({ cls := "TermsDesk$Deed", name := "due", desc := "(I)I" } : Jvm.MethodName) ({ cls := "TermsDesk$Deed", name := "due", desc := "(I)I" } : Jvm.MethodName)) ∈ lw_all := lw_g (lw_at lw_m2 236 rfl) rfl
theorem q545 : (Jvm.Cond.code ({ cls := "TermsDesk$Deed", name := "due", desc := "(I)I" } : Jvm.MethodName) prog_5_method_7_code (6 : Nat) (Option.some Jvm.ClassFile.FieldType.int)) ∈ lw_all := lw_g (lw_at lw_m2 237 rfl) rfl
theorem q546 : (Jvm.Cond.methodLinkNest "TermsDesk$Deed" (85 : Nat) ({ cls := "TermsDesk", name := "dutiesOf", desc := "(JI)I" } : Jvm.MethodName) "TermsDesk") ∈ lw_tbl := lw_at lw_m2 238 rfl
theorem q549 : (Jvm.Cond.methodLink "TermsDesk$Deed" (118 : Nat) ({ cls := "TermsDesk$Deed", name := "findBarred", desc := "(II)V" } : Jvm.MethodName)) ∈ lw_all := lw_g (lw_at lw_m3 1 rfl) rfl
theorem q550 : (Jvm.Cond.privateMethod ({ cls := "TermsDesk$Deed", name := "findBarred", desc := "(II)V" } : Jvm.MethodName)) ∈ lw_tbl := lw_at lw_m3 2 rfl
theorem q551 : (Jvm.Cond.instanceMethod ({ cls := "TermsDesk$Deed", name := "findBarred", desc := "(II)V" } : Jvm.MethodName)) ∈ lw_all := lw_g (lw_at lw_m3 3 rfl) rfl
theorem q552 : (Jvm.Cond.code ({ cls := "TermsDesk$Deed", name := "findBarred", desc := "(II)V" } : Jvm.MethodName) prog_5_method_12_code (4 : Nat) (Option.none : Option Jvm.ClassFile.FieldType)) ∈ lw_all := lw_g (lw_at lw_m3 4 rfl) rfl
theorem q553 : (Jvm.Cond.methodLink "TermsDesk$Deed" (111 : Nat) ({ cls := "TermsDesk$Deed", name := "isBarred", desc := "(III)Z" } : Jvm.MethodName)) ∈ lw_all := lw_g (lw_at lw_m3 5 rfl) rfl
theorem q554 : (Jvm.Cond.privateMethod ({ cls := "TermsDesk$Deed", name := "isBarred", desc := "(III)Z" } : Jvm.MethodName)) ∈ lw_tbl := lw_at lw_m3 6 rfl
theorem q555 : (Jvm.Cond.instanceMethod ({ cls := "TermsDesk$Deed", name := "isBarred", desc := "(III)Z" } : Jvm.MethodName)) ∈ lw_all := lw_g (lw_at lw_m3 7 rfl) rfl
theorem q556 : (Jvm.Cond.code ({ cls := "TermsDesk$Deed", name := "isBarred", desc := "(III)Z" } : Jvm.MethodName) prog_5_method_10_code (5 : Nat) (Option.some Jvm.ClassFile.FieldType.boolean)) ∈ lw_all := lw_g (lw_at lw_m3 8 rfl) rfl
theorem q557 : (Jvm.Cond.methodLink "TermsDesk$Deed" (94 : Nat) ({ cls := "TermsDesk$Deed", name := "bound", desc := "(I)I" } : Jvm.MethodName)) ∈ lw_all := lw_g (lw_at lw_m3 9 rfl) rfl
theorem q558 : (Jvm.Cond.privateMethod ({ cls := "TermsDesk$Deed", name := "bound", desc := "(I)I" } : Jvm.MethodName)) ∈ lw_tbl := lw_at lw_m3 10 rfl
theorem q559 : (Jvm.Cond.instanceMethod ({ cls := "TermsDesk$Deed", name := "bound", desc := "(I)I" } : Jvm.MethodName)) ∈ lw_all := lw_g (lw_at lw_m3 11 rfl) rfl
theorem q560 : (Jvm.Cond.code ({ cls := "TermsDesk$Deed", name := "bound", desc := "(I)I" } : Jvm.MethodName) prog_5_method_9_code (2 : Nat) (Option.some Jvm.ClassFile.FieldType.int)) ∈ lw_all := lw_g (lw_at lw_m3 12 rfl) rfl
theorem q561 : (Jvm.Cond.methodLink "TermsDesk$Deed" (147 : Nat) ({ cls := "TermsDesk$Deed", name := "following", desc := "(II)I" } : Jvm.MethodName)) ∈ lw_all := lw_g (lw_at lw_m3 13 rfl) rfl
theorem q562 : (Jvm.Cond.privateMethod ({ cls := "TermsDesk$Deed", name := "following", desc := "(II)I" } : Jvm.MethodName)) ∈ lw_tbl := lw_at lw_m3 14 rfl
theorem q563 : (Jvm.Cond.instanceMethod ({ cls := "TermsDesk$Deed", name := "following", desc := "(II)I" } : Jvm.MethodName)) ∈ lw_all := lw_g (lw_at lw_m3 15 rfl) rfl
theorem q564 : (Jvm.Cond.code ({ cls := "TermsDesk$Deed", name := "following", desc := "(II)I" } : Jvm.MethodName) prog_5_method_18_code (4 : Nat) (Option.some Jvm.ClassFile.FieldType.int)) ∈ lw_all := lw_g (lw_at lw_m3 16 rfl) rfl
theorem q658 : (Jvm.Cond.fieldLinkNest "TermsDesk$Deed" (104 : Nat) "TermsDesk$Licence" "permits" "I" "TermsDesk") ∈ lw_tbl := lw_at lw_m3 110 rfl
theorem q661 : (Jvm.Cond.fieldLinkNest "TermsDesk$Deed" (97 : Nat) "TermsDesk$Licence" "bars" "I" "TermsDesk") ∈ lw_tbl := lw_at lw_m3 113 rfl
theorem q664 : (Jvm.Cond.fieldLinkNest "TermsDesk$Deed" (75 : Nat) "TermsDesk$Licence" "reach" "I" "TermsDesk") ∈ lw_tbl := lw_at lw_m3 116 rfl
theorem q667 : (Jvm.Cond.fieldLinkNest "TermsDesk$Deed" (81 : Nat) "TermsDesk$Licence" "demands" "J" "TermsDesk") ∈ lw_tbl := lw_at lw_m3 119 rfl
theorem q736 : (Jvm.Cond.selects "TermsDesk$Deed" ({ cls := "java/lang/Object", name := "getClass", desc := "()Ljava/lang/Class;" } : Jvm.MethodName) ({ cls := "java/lang/Object", name := "getClass", desc := "()Ljava/lang/Class;" } : Jvm.MethodName)) ∈ lw_all := lw_g (lw_at lw_m3 188 rfl) rfl
theorem q1060 : (Jvm.Cond.instanceMethod ({ cls := "TermsDesk$Deed", name := "clashes", desc := "()I" } : Jvm.MethodName)) ∈ lw_all := lw_g (lw_at lw_m5 32 rfl) rfl
theorem q1061 : (Jvm.Cond.selects "TermsDesk$Deed" ({ cls := "TermsDesk$Deed", name := "clashes", desc := "()I" } : Jvm.MethodName) ({ cls := "TermsDesk$Deed", name := "clashes", desc := "()I" } : Jvm.MethodName)) ∈ lw_all := lw_g (lw_at lw_m5 33 rfl) rfl
theorem q1062 : (Jvm.Cond.code ({ cls := "TermsDesk$Deed", name := "clashes", desc := "()I" } : Jvm.MethodName) prog_5_method_14_code (1 : Nat) (Option.some Jvm.ClassFile.FieldType.int)) ∈ lw_all := lw_g (lw_at lw_m5 34 rfl) rfl
theorem q1063 : (Jvm.Cond.constant "TermsDesk$Deed" (122 : Nat) (2147483647 : Int32)) ∈ lw_all := lw_g (lw_at lw_m5 35 rfl) rfl
theorem q1074 : (Jvm.Cond.instanceMethod ({ cls := "TermsDesk$Deed", name := "clash", desc := "(I)LTermsDesk$Clash;" } : Jvm.MethodName)) ∈ lw_all := lw_g (lw_at lw_m5 46 rfl) rfl
theorem q1075 : (Jvm.Cond.selects "TermsDesk$Deed" ({ cls := "TermsDesk$Deed", name := "clash", desc := "(I)LTermsDesk$Clash;" } : Jvm.MethodName) ({ cls := "TermsDesk$Deed", name := "clash", desc := "(I)LTermsDesk$Clash;" } : Jvm.MethodName)) ∈ lw_all := lw_g (lw_at lw_m5 47 rfl) rfl
theorem q1076 : (Jvm.Cond.code ({ cls := "TermsDesk$Deed", name := "clash", desc := "(I)LTermsDesk$Clash;" } : Jvm.MethodName) prog_5_method_15_code (2 : Nat) (Option.some (Jvm.ClassFile.FieldType.object "TermsDesk$Clash"))) ∈ lw_all := lw_g (lw_at lw_m5 48 rfl) rfl
theorem q1077 : (Jvm.Cond.methodLinkNest "TermsDesk$Deed" (136 : Nat) ({ cls := "TermsDesk", name := "checkElement", desc := "(Z)V" } : Jvm.MethodName) "TermsDesk") ∈ lw_tbl := lw_at lw_m5 49 rfl
theorem q1097 : (Jvm.Cond.instanceMethod ({ cls := "TermsDesk$Deed", name := "due", desc := "()I" } : Jvm.MethodName)) ∈ lw_all := lw_g (lw_at lw_m5 69 rfl) rfl
theorem q1098 : (Jvm.Cond.selects "TermsDesk$Deed" ({ cls := "TermsDesk$Deed", name := "due", desc := "()I" } : Jvm.MethodName) ({ cls := "TermsDesk$Deed", name := "due", desc := "()I" } : Jvm.MethodName)) ∈ lw_all := lw_g (lw_at lw_m5 70 rfl) rfl
theorem q1099 : (Jvm.Cond.code ({ cls := "TermsDesk$Deed", name := "due", desc := "()I" } : Jvm.MethodName) prog_5_method_8_code (3 : Nat) (Option.some Jvm.ClassFile.FieldType.int)) ∈ lw_all := lw_g (lw_at lw_m5 71 rfl) rfl
theorem q2497 : (Jvm.Cond.castable "TermsDesk$Deed" "java/lang/Object") ∈ lw_tbl := lw_at lw_m11 29 rfl
theorem in_X8 : ∀ w ∈ wsX80, w ∈ lw_all := lw_in wsX80 [448, 450, 452, 454, 456] (by decide +kernel) (by decide +kernel)
/-! TermsDesk$Search -/
set_option maxRecDepth 100000
def RX9 : String := "TermsDesk$Search"
def TX9 : u_T := fun k => match k with
  | 0 => ("TermsDesk$Search", "wanted", "I", false)
  | 1 => ("TermsDesk$Search", "most", "I", false)
  | 2 => ("TermsDesk$Search", "count", "I", false)
  | _ => ("TermsDesk$Search", "found", "LTermsDesk$Clash;", false)
def tyX9 : Nat → FieldType := fun k => match k with
  | 0 => .int
  | 1 => .int
  | 2 => .int
  | _ => .object "TermsDesk$Clash"
abbrev wsX90 : List Cond := u_ws RX9 TX9 4
theorem nmX9 : ∀ a, a < 4 → ∀ b, b < 4 → a ≠ b → (TX9 a).2.1 ≠ (TX9 b).2.1 := by decide +kernel
theorem tyX9_ok : ∀ k, k < 4 → parseFieldDescriptor (TX9 k).2.2.1 = some (tyX9 k) := by decide +kernel
abbrev cX9_init : ByteArray := prog_11_method_1_code
def yX9_init : MethodName := ⟨RX9, "<init>", "()V"⟩
theorem dX9_init_0 : decode cX9_init 0 = .ok (.aload_n 0, 1) := by decide +kernel
theorem dX9_init_1 : decode cX9_init 1 = .ok (.invokespecial 1, 3) := by decide +kernel
theorem dX9_init_4 : decode cX9_init 4 = .ok (.return_, 1) := by decide +kernel
abbrev cX9_begin : ByteArray := prog_11_method_2_code
def yX9_begin : MethodName := ⟨RX9, "begin", "(II)V"⟩
def dkwX9_begin_0 : List UInt8 := [42, 27, 181, 0, 7, 42, 28, 181, 0, 13, 42, 3, 181, 0, 16, 42, 1, 181, 0, 19, 177]
abbrev dktX9_begin_0 : List UInt8 := dkwX9_begin_0 ++ []
theorem dksX9_begin_0 : cX9_begin.data.toList.drop 0 = dktX9_begin_0 := by decide +kernel
theorem dX9_begin_0 : decode cX9_begin 0 = .ok (.aload_n 0, 1) := dk_42 (dk_at dksX9_begin_0 0 rfl rfl)
theorem dX9_begin_1 : decode cX9_begin 1 = .ok (.iload_n 1, 1) := dk_27 (dk_at dksX9_begin_0 1 rfl rfl)
theorem dX9_begin_2 : decode cX9_begin 2 = .ok (.putfield 7, 3) := dk_181 0 7 (dk_at dksX9_begin_0 2 rfl rfl)
theorem dX9_begin_5 : decode cX9_begin 5 = .ok (.aload_n 0, 1) := dk_42 (dk_at dksX9_begin_0 5 rfl rfl)
theorem dX9_begin_6 : decode cX9_begin 6 = .ok (.iload_n 2, 1) := dk_28 (dk_at dksX9_begin_0 6 rfl rfl)
theorem dX9_begin_7 : decode cX9_begin 7 = .ok (.putfield 13, 3) := dk_181 0 13 (dk_at dksX9_begin_0 7 rfl rfl)
theorem dX9_begin_10 : decode cX9_begin 10 = .ok (.aload_n 0, 1) := dk_42 (dk_at dksX9_begin_0 10 rfl rfl)
theorem dX9_begin_11 : decode cX9_begin 11 = .ok (.iconst 0, 1) := dk_3 (dk_at dksX9_begin_0 11 rfl rfl)
theorem dX9_begin_12 : decode cX9_begin 12 = .ok (.putfield 16, 3) := dk_181 0 16 (dk_at dksX9_begin_0 12 rfl rfl)
theorem dX9_begin_15 : decode cX9_begin 15 = .ok (.aload_n 0, 1) := dk_42 (dk_at dksX9_begin_0 15 rfl rfl)
theorem dX9_begin_16 : decode cX9_begin 16 = .ok (.aconst_null, 1) := dk_1 (dk_at dksX9_begin_0 16 rfl rfl)
theorem dX9_begin_17 : decode cX9_begin 17 = .ok (.putfield 19, 3) := dk_181 0 19 (dk_at dksX9_begin_0 17 rfl rfl)
theorem dX9_begin_20 : decode cX9_begin 20 = .ok (.return_, 1) := dk_177 (dk_at dksX9_begin_0 20 rfl rfl)
abbrev cX9_goesOn : ByteArray := prog_11_method_3_code
def yX9_goesOn : MethodName := ⟨RX9, "goesOn", "()Z"⟩
def dkwX9_goesOn_0 : List UInt8 := [42, 180, 0, 19, 199, 0, 18, 42, 180, 0, 16, 42, 180, 0, 13, 162, 0, 7, 4, 167, 0, 4, 3, 172]
abbrev dktX9_goesOn_0 : List UInt8 := dkwX9_goesOn_0 ++ []
theorem dksX9_goesOn_0 : cX9_goesOn.data.toList.drop 0 = dktX9_goesOn_0 := by decide +kernel
theorem dX9_goesOn_0 : decode cX9_goesOn 0 = .ok (.aload_n 0, 1) := dk_42 (dk_at dksX9_goesOn_0 0 rfl rfl)
theorem dX9_goesOn_1 : decode cX9_goesOn 1 = .ok (.getfield 19, 3) := dk_180 0 19 (dk_at dksX9_goesOn_0 1 rfl rfl)
theorem dX9_goesOn_4 : decode cX9_goesOn 4 = .ok (.ifnonnull 18, 3) := dk_199 0 18 (dk_at dksX9_goesOn_0 4 rfl rfl)
theorem dX9_goesOn_7 : decode cX9_goesOn 7 = .ok (.aload_n 0, 1) := dk_42 (dk_at dksX9_goesOn_0 7 rfl rfl)
theorem dX9_goesOn_8 : decode cX9_goesOn 8 = .ok (.getfield 16, 3) := dk_180 0 16 (dk_at dksX9_goesOn_0 8 rfl rfl)
theorem dX9_goesOn_11 : decode cX9_goesOn 11 = .ok (.aload_n 0, 1) := dk_42 (dk_at dksX9_goesOn_0 11 rfl rfl)
theorem dX9_goesOn_12 : decode cX9_goesOn 12 = .ok (.getfield 13, 3) := dk_180 0 13 (dk_at dksX9_goesOn_0 12 rfl rfl)
theorem dX9_goesOn_15 : decode cX9_goesOn 15 = .ok (.if_icmp .ge 7, 3) := dk_162 0 7 (dk_at dksX9_goesOn_0 15 rfl rfl)
theorem dX9_goesOn_18 : decode cX9_goesOn 18 = .ok (.iconst 1, 1) := dk_4 (dk_at dksX9_goesOn_0 18 rfl rfl)
theorem dX9_goesOn_19 : decode cX9_goesOn 19 = .ok (.goto 4, 3) := dk_167 0 4 (dk_at dksX9_goesOn_0 19 rfl rfl)
theorem dX9_goesOn_22 : decode cX9_goesOn 22 = .ok (.iconst 0, 1) := dk_3 (dk_at dksX9_goesOn_0 22 rfl rfl)
theorem dX9_goesOn_23 : decode cX9_goesOn 23 = .ok (.ireturn, 1) := dk_172 (dk_at dksX9_goesOn_0 23 rfl rfl)
abbrev cX9_find : ByteArray := prog_11_method_4_code
def yX9_find : MethodName := ⟨RX9, "find", "(IIII)V"⟩
def dkwX9_find_1 : List UInt8 := [181, 0, 19, 42, 89, 180, 0, 16, 4, 96, 181, 0, 16, 177]
abbrev dktX9_find_1 : List UInt8 := dkwX9_find_1 ++ []
def dkwX9_find_0 : List UInt8 := [42, 180, 0, 16, 42, 180, 0, 7, 160, 0, 19, 42, 187, 0, 23, 89, 27, 28, 29, 21, 4, 183, 0, 25]
abbrev dktX9_find_0 : List UInt8 := dkwX9_find_0 ++ dktX9_find_1
theorem dksX9_find_0 : cX9_find.data.toList.drop 0 = dktX9_find_0 := by decide +kernel
theorem dksX9_find_1 : cX9_find.data.toList.drop 24 = dktX9_find_1 := dk_seg dksX9_find_0 24 rfl rfl
theorem dX9_find_0 : decode cX9_find 0 = .ok (.aload_n 0, 1) := dk_42 (dk_at dksX9_find_0 0 rfl rfl)
theorem dX9_find_1 : decode cX9_find 1 = .ok (.getfield 16, 3) := dk_180 0 16 (dk_at dksX9_find_0 1 rfl rfl)
theorem dX9_find_4 : decode cX9_find 4 = .ok (.aload_n 0, 1) := dk_42 (dk_at dksX9_find_0 4 rfl rfl)
theorem dX9_find_5 : decode cX9_find 5 = .ok (.getfield 7, 3) := dk_180 0 7 (dk_at dksX9_find_0 5 rfl rfl)
theorem dX9_find_8 : decode cX9_find 8 = .ok (.if_icmp .ne 19, 3) := dk_160 0 19 (dk_at dksX9_find_0 8 rfl rfl)
theorem dX9_find_11 : decode cX9_find 11 = .ok (.aload_n 0, 1) := dk_42 (dk_at dksX9_find_0 11 rfl rfl)
theorem dX9_find_12 : decode cX9_find 12 = .ok (.new 23, 3) := dk_187 0 23 (dk_at dksX9_find_0 12 rfl rfl)
theorem dX9_find_15 : decode cX9_find 15 = .ok (.dup, 1) := dk_89 (dk_at dksX9_find_0 15 rfl rfl)
theorem dX9_find_16 : decode cX9_find 16 = .ok (.iload_n 1, 1) := dk_27 (dk_at dksX9_find_0 16 rfl rfl)
theorem dX9_find_17 : decode cX9_find 17 = .ok (.iload_n 2, 1) := dk_28 (dk_at dksX9_find_0 17 rfl rfl)
theorem dX9_find_18 : decode cX9_find 18 = .ok (.iload_n 3, 1) := dk_29 (dk_at dksX9_find_0 18 rfl rfl)
theorem dX9_find_19 : decode cX9_find 19 = .ok (.iload 4, 2) := dk_21 4 (dk_at dksX9_find_0 19 rfl rfl)
theorem dX9_find_21 : decode cX9_find 21 = .ok (.invokespecial 25, 3) := dk_183 0 25 (dk_at dksX9_find_0 21 rfl rfl)
theorem dX9_find_24 : decode cX9_find 24 = .ok (.putfield 19, 3) := dk_181 0 19 (dk_at dksX9_find_1 0 rfl rfl)
theorem dX9_find_27 : decode cX9_find 27 = .ok (.aload_n 0, 1) := dk_42 (dk_at dksX9_find_1 3 rfl rfl)
theorem dX9_find_28 : decode cX9_find 28 = .ok (.dup, 1) := dk_89 (dk_at dksX9_find_1 4 rfl rfl)
theorem dX9_find_29 : decode cX9_find 29 = .ok (.getfield 16, 3) := dk_180 0 16 (dk_at dksX9_find_1 5 rfl rfl)
theorem dX9_find_32 : decode cX9_find 32 = .ok (.iconst 1, 1) := dk_4 (dk_at dksX9_find_1 8 rfl rfl)
theorem dX9_find_33 : decode cX9_find 33 = .ok (.iadd, 1) := dk_96 (dk_at dksX9_find_1 9 rfl rfl)
theorem dX9_find_34 : decode cX9_find 34 = .ok (.putfield 16, 3) := dk_181 0 16 (dk_at dksX9_find_1 10 rfl rfl)
theorem dX9_find_37 : decode cX9_find 37 = .ok (.return_, 1) := dk_177 (dk_at dksX9_find_1 13 rfl rfl)
theorem q100 : (Jvm.Cond.initialized "TermsDesk$Search") ∈ lw_all := lw_g (lw_at lw_m1 32 rfl) rfl
theorem q423 : (Jvm.Cond.instantiable "TermsDesk$Search" (4 : Nat)) ∈ lw_all := lw_g (lw_at lw_m2 115 rfl) rfl
theorem q425 : (Jvm.Cond.instanceMethod ({ cls := "TermsDesk$Search", name := "<init>", desc := "()V" } : Jvm.MethodName)) ∈ lw_all := lw_g (lw_at lw_m2 117 rfl) rfl
theorem q426 : (Jvm.Cond.code ({ cls := "TermsDesk$Search", name := "<init>", desc := "()V" } : Jvm.MethodName) prog_11_method_1_code (1 : Nat) (Option.none : Option Jvm.ClassFile.FieldType)) ∈ lw_all := lw_g (lw_at lw_m2 118 rfl) rfl
theorem q427 : (Jvm.Cond.methodLink "TermsDesk$Search" (1 : Nat) ({ cls := "java/lang/Object", name := "<init>", desc := "()V" } : Jvm.MethodName)) ∈ lw_all := lw_g (lw_at lw_m2 119 rfl) rfl
theorem q428 : (Jvm.Cond.fieldLink "TermsDesk$Search" (7 : Nat) "TermsDesk$Search" "wanted" "I") ∈ lw_all := lw_g (lw_at lw_m2 120 rfl) rfl
theorem q429 : (Jvm.Cond.fieldLink "TermsDesk$Search" (13 : Nat) "TermsDesk$Search" "most" "I") ∈ lw_all := lw_g (lw_at lw_m2 121 rfl) rfl
theorem q430 : (Jvm.Cond.fieldLink "TermsDesk$Search" (16 : Nat) "TermsDesk$Search" "count" "I") ∈ lw_all := lw_g (lw_at lw_m2 122 rfl) rfl
theorem q432 : (Jvm.Cond.fieldLink "TermsDesk$Search" (19 : Nat) "TermsDesk$Search" "found" "LTermsDesk$Clash;") ∈ lw_all := lw_g (lw_at lw_m2 124 rfl) rfl
theorem q434 : (Jvm.Cond.lays "TermsDesk$Search" "TermsDesk$Search" "wanted" "I") ∈ lw_all := lw_g (lw_at lw_m2 126 rfl) rfl
theorem q435 : (Jvm.Cond.soleField "TermsDesk$Search" "wanted") ∈ lw_all := lw_g (lw_at lw_m2 127 rfl) rfl
theorem q436 : (Jvm.Cond.lays "TermsDesk$Search" "TermsDesk$Search" "most" "I") ∈ lw_all := lw_g (lw_at lw_m2 128 rfl) rfl
theorem q437 : (Jvm.Cond.soleField "TermsDesk$Search" "most") ∈ lw_all := lw_g (lw_at lw_m2 129 rfl) rfl
theorem q438 : (Jvm.Cond.lays "TermsDesk$Search" "TermsDesk$Search" "count" "I") ∈ lw_all := lw_g (lw_at lw_m2 130 rfl) rfl
theorem q439 : (Jvm.Cond.soleField "TermsDesk$Search" "count") ∈ lw_all := lw_g (lw_at lw_m2 131 rfl) rfl
theorem q440 : (Jvm.Cond.lays "TermsDesk$Search" "TermsDesk$Search" "found" "LTermsDesk$Clash;") ∈ lw_all := lw_g (lw_at lw_m2 132 rfl) rfl
theorem q441 : (Jvm.Cond.soleField "TermsDesk$Search" "found") ∈ lw_all := lw_g (lw_at lw_m2 133 rfl) rfl
theorem q442 : (Jvm.Cond.superclass "TermsDesk$Search" "java/lang/Object") ∈ lw_all := lw_g (lw_at lw_m2 134 rfl) rfl
theorem q478 : (Jvm.Cond.instanceMethod ({ cls := "TermsDesk$Search", name := "begin", desc := "(II)V" } : Jvm.MethodName)) ∈ lw_all := lw_g (lw_at lw_m2 170 rfl) rfl
theorem q479 : (Jvm.Cond.selects "TermsDesk$Search" ({ cls := "TermsDesk$Search", name := "begin", desc := "(II)V" } : Jvm.MethodName) ({ cls := "TermsDesk$Search", name := "begin", desc := "(II)V" } : Jvm.MethodName)) ∈ lw_all := lw_g (lw_at lw_m2 171 rfl) rfl
theorem q480 : (Jvm.Cond.code ({ cls := "TermsDesk$Search", name := "begin", desc := "(II)V" } : Jvm.MethodName) prog_11_method_2_code (3 : Nat) (Option.none : Option Jvm.ClassFile.FieldType)) ∈ lw_all := lw_g (lw_at lw_m2 172 rfl) rfl
theorem q490 : (Jvm.Cond.instanceMethod ({ cls := "TermsDesk$Search", name := "goesOn", desc := "()Z" } : Jvm.MethodName)) ∈ lw_all := lw_g (lw_at lw_m2 182 rfl) rfl
theorem q491 : (Jvm.Cond.selects "TermsDesk$Search" ({ cls := "TermsDesk$Search", name := "goesOn", desc := "()Z" } : Jvm.MethodName) ({ cls := "TermsDesk$Search", name := "goesOn", desc := "()Z" } : Jvm.MethodName)) ∈ lw_all := lw_g (lw_at lw_m2 183 rfl) rfl
theorem q492 : (Jvm.Cond.code ({ cls := "TermsDesk$Search", name := "goesOn", desc := "()Z" } : Jvm.MethodName) prog_11_method_3_code (1 : Nat) (Option.some Jvm.ClassFile.FieldType.boolean)) ∈ lw_all := lw_g (lw_at lw_m2 184 rfl) rfl
theorem q520 : (Jvm.Cond.instanceMethod ({ cls := "TermsDesk$Search", name := "find", desc := "(IIII)V" } : Jvm.MethodName)) ∈ lw_all := lw_g (lw_at lw_m2 212 rfl) rfl
theorem q521 : (Jvm.Cond.selects "TermsDesk$Search" ({ cls := "TermsDesk$Search", name := "find", desc := "(IIII)V" } : Jvm.MethodName) ({ cls := "TermsDesk$Search", name := "find", desc := "(IIII)V" } : Jvm.MethodName)) ∈ lw_all := lw_g (lw_at lw_m2 213 rfl) rfl
theorem q522 : (Jvm.Cond.code ({ cls := "TermsDesk$Search", name := "find", desc := "(IIII)V" } : Jvm.MethodName) prog_11_method_4_code (5 : Nat) (Option.none : Option Jvm.ClassFile.FieldType)) ∈ lw_all := lw_g (lw_at lw_m2 214 rfl) rfl
theorem q523 : (Jvm.Cond.classLink "TermsDesk$Search" (23 : Nat) "TermsDesk$Clash") ∈ lw_all := lw_g (lw_at lw_m2 215 rfl) rfl
theorem q525 : (Jvm.Cond.methodLink "TermsDesk$Search" (25 : Nat) ({ cls := "TermsDesk$Clash", name := "<init>", desc := "(IIII)V" } : Jvm.MethodName)) ∈ lw_all := lw_g (lw_at lw_m2 217 rfl) rfl
theorem q742 : (Jvm.Cond.selects "TermsDesk$Search" ({ cls := "java/lang/Object", name := "getClass", desc := "()Ljava/lang/Class;" } : Jvm.MethodName) ({ cls := "java/lang/Object", name := "getClass", desc := "()Ljava/lang/Class;" } : Jvm.MethodName)) ∈ lw_all := lw_g (lw_at lw_m3 194 rfl) rfl
theorem q2498 : (Jvm.Cond.castable "TermsDesk$Search" "java/lang/Object") ∈ lw_tbl := lw_at lw_m11 30 rfl
theorem in_X9 : ∀ w ∈ wsX90, w ∈ lw_all := lw_in wsX90 [434, 436, 438, 440] (by decide +kernel) (by decide +kernel)
