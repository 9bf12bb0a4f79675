/-! TermsDesk -/
set_option maxRecDepth 100000
def RX1 : String := "TermsDesk"
def TX1 : u_T := fun k => match k with
  | 0 => ("TermsDesk", "desk", "LTermsDesk$Desk;", false)
  | 1 => ("TermsDesk", "undoSteps", "Ljava/util/ArrayDeque;", true)
  | 2 => ("TermsDesk", "saved", "LTermsDesk$Desk;", false)
  | 3 => ("TermsDesk", "rows", "[[J", true)
  | 4 => ("TermsDesk", "input", "Ljava/lang/StringBuilder;", false)
  | 5 => ("TermsDesk", "lastError", "LTermsDesk$SyntaxException;", false)
  | 6 => ("TermsDesk", "lastItem", "I", false)
  | _ => ("TermsDesk", "chain", "[I", false)
def tyX1 : Nat → FieldType := fun k => match k with
  | 0 => .object "TermsDesk$Desk"
  | 1 => .object "java/util/ArrayDeque"
  | 2 => .object "TermsDesk$Desk"
  | 3 => .array (.array .long)
  | 4 => .object "java/lang/StringBuilder"
  | 5 => .object "TermsDesk$SyntaxException"
  | 6 => .int
  | _ => .array .int
abbrev wsX10 : List Cond := u_ws RX1 TX1 8
theorem nmX1 : ∀ a, a < 8 → ∀ b, b < 8 → a ≠ b → (TX1 a).2.1 ≠ (TX1 b).2.1 := by decide +kernel
theorem tyX1_ok : ∀ k, k < 8 → parseFieldDescriptor (TX1 k).2.2.1 = some (tyX1 k) := by decide +kernel
abbrev cX1_init : ByteArray := prog_1_method_11_code
def yX1_init : MethodName := ⟨RX1, "<init>", "()V"⟩
def dkwX1_init_2 : List UInt8 := [42, 2, 181, 0, 54, 177]
abbrev dktX1_init_2 : List UInt8 := dkwX1_init_2 ++ []
def dkwX1_init_1 : List UInt8 := [181, 0, 38, 42, 6, 3, 197, 0, 42, 2, 181, 0, 44, 42, 187, 0, 47, 89, 183, 0, 49, 181, 0, 50]
abbrev dktX1_init_1 : List UInt8 := dkwX1_init_1 ++ dktX1_init_2
def dkwX1_init_0 : List UInt8 := [42, 183, 0, 25, 42, 187, 0, 28, 89, 183, 0, 30, 181, 0, 31, 42, 187, 0, 35, 89, 183, 0, 37]
abbrev dktX1_init_0 : List UInt8 := dkwX1_init_0 ++ dktX1_init_1
theorem dksX1_init_0 : cX1_init.data.toList.drop 0 = dktX1_init_0 := by decide +kernel
theorem dksX1_init_1 : cX1_init.data.toList.drop 23 = dktX1_init_1 := dk_seg dksX1_init_0 23 rfl rfl
theorem dksX1_init_2 : cX1_init.data.toList.drop 47 = dktX1_init_2 := dk_seg dksX1_init_1 24 rfl rfl
theorem dX1_init_0 : decode cX1_init 0 = .ok (.aload_n 0, 1) := dk_42 (dk_at dksX1_init_0 0 rfl rfl)
theorem dX1_init_1 : decode cX1_init 1 = .ok (.invokespecial 25, 3) := dk_183 0 25 (dk_at dksX1_init_0 1 rfl rfl)
theorem dX1_init_4 : decode cX1_init 4 = .ok (.aload_n 0, 1) := dk_42 (dk_at dksX1_init_0 4 rfl rfl)
theorem dX1_init_5 : decode cX1_init 5 = .ok (.new 28, 3) := dk_187 0 28 (dk_at dksX1_init_0 5 rfl rfl)
theorem dX1_init_8 : decode cX1_init 8 = .ok (.dup, 1) := dk_89 (dk_at dksX1_init_0 8 rfl rfl)
theorem dX1_init_9 : decode cX1_init 9 = .ok (.invokespecial 30, 3) := dk_183 0 30 (dk_at dksX1_init_0 9 rfl rfl)
theorem dX1_init_12 : decode cX1_init 12 = .ok (.putfield 31, 3) := dk_181 0 31 (dk_at dksX1_init_0 12 rfl rfl)
theorem dX1_init_15 : decode cX1_init 15 = .ok (.aload_n 0, 1) := dk_42 (dk_at dksX1_init_0 15 rfl rfl)
theorem dX1_init_16 : decode cX1_init 16 = .ok (.new 35, 3) := dk_187 0 35 (dk_at dksX1_init_0 16 rfl rfl)
theorem dX1_init_19 : decode cX1_init 19 = .ok (.dup, 1) := dk_89 (dk_at dksX1_init_0 19 rfl rfl)
theorem dX1_init_20 : decode cX1_init 20 = .ok (.invokespecial 37, 3) := dk_183 0 37 (dk_at dksX1_init_0 20 rfl rfl)
theorem dX1_init_23 : decode cX1_init 23 = .ok (.putfield 38, 3) := dk_181 0 38 (dk_at dksX1_init_1 0 rfl rfl)
theorem dX1_init_26 : decode cX1_init 26 = .ok (.aload_n 0, 1) := dk_42 (dk_at dksX1_init_1 3 rfl rfl)
theorem dX1_init_27 : decode cX1_init 27 = .ok (.iconst 3, 1) := dk_6 (dk_at dksX1_init_1 4 rfl rfl)
theorem dX1_init_28 : decode cX1_init 28 = .ok (.iconst 0, 1) := dk_3 (dk_at dksX1_init_1 5 rfl rfl)
theorem dX1_init_29 : decode cX1_init 29 = .ok (.multianewarray 42 2, 4) := by decide +kernel
theorem dX1_init_33 : decode cX1_init 33 = .ok (.putfield 44, 3) := dk_181 0 44 (dk_at dksX1_init_1 10 rfl rfl)
theorem dX1_init_36 : decode cX1_init 36 = .ok (.aload_n 0, 1) := dk_42 (dk_at dksX1_init_1 13 rfl rfl)
theorem dX1_init_37 : decode cX1_init 37 = .ok (.new 47, 3) := dk_187 0 47 (dk_at dksX1_init_1 14 rfl rfl)
theorem dX1_init_40 : decode cX1_init 40 = .ok (.dup, 1) := dk_89 (dk_at dksX1_init_1 17 rfl rfl)
theorem dX1_init_41 : decode cX1_init 41 = .ok (.invokespecial 49, 3) := dk_183 0 49 (dk_at dksX1_init_1 18 rfl rfl)
theorem dX1_init_44 : decode cX1_init 44 = .ok (.putfield 50, 3) := dk_181 0 50 (dk_at dksX1_init_1 21 rfl rfl)
theorem dX1_init_47 : decode cX1_init 47 = .ok (.aload_n 0, 1) := dk_42 (dk_at dksX1_init_2 0 rfl rfl)
theorem dX1_init_48 : decode cX1_init 48 = .ok (.iconst (-1), 1) := dk_2 (dk_at dksX1_init_2 1 rfl rfl)
theorem dX1_init_49 : decode cX1_init 49 = .ok (.putfield 54, 3) := dk_181 0 54 (dk_at dksX1_init_2 2 rfl rfl)
theorem dX1_init_52 : decode cX1_init 52 = .ok (.return_, 1) := dk_177 (dk_at dksX1_init_2 5 rfl rfl)
abbrev cX1_clear : ByteArray := prog_1_method_13_code
def yX1_clear : MethodName := ⟨RX1, "clear", "()I"⟩
def dkwX1_clear_1 : List UInt8 := [180, 0, 38, 182, 0, 77, 27, 172]
abbrev dktX1_clear_1 : List UInt8 := dkwX1_clear_1 ++ []
def dkwX1_clear_0 : List UInt8 := [42, 180, 0, 31, 180, 0, 70, 182, 0, 74, 60, 42, 187, 0, 28, 89, 183, 0, 30, 181, 0, 31, 42]
abbrev dktX1_clear_0 : List UInt8 := dkwX1_clear_0 ++ dktX1_clear_1
theorem dksX1_clear_0 : cX1_clear.data.toList.drop 0 = dktX1_clear_0 := by decide +kernel
theorem dksX1_clear_1 : cX1_clear.data.toList.drop 23 = dktX1_clear_1 := dk_seg dksX1_clear_0 23 rfl rfl
theorem dX1_clear_0 : decode cX1_clear 0 = .ok (.aload_n 0, 1) := dk_42 (dk_at dksX1_clear_0 0 rfl rfl)
theorem dX1_clear_1 : decode cX1_clear 1 = .ok (.getfield 31, 3) := dk_180 0 31 (dk_at dksX1_clear_0 1 rfl rfl)
theorem dX1_clear_4 : decode cX1_clear 4 = .ok (.getfield 70, 3) := dk_180 0 70 (dk_at dksX1_clear_0 4 rfl rfl)
theorem dX1_clear_7 : decode cX1_clear 7 = .ok (.invokevirtual 74, 3) := dk_182 0 74 (dk_at dksX1_clear_0 7 rfl rfl)
theorem dX1_clear_10 : decode cX1_clear 10 = .ok (.istore_n 1, 1) := dk_60 (dk_at dksX1_clear_0 10 rfl rfl)
theorem dX1_clear_11 : decode cX1_clear 11 = .ok (.aload_n 0, 1) := dk_42 (dk_at dksX1_clear_0 11 rfl rfl)
theorem dX1_clear_12 : decode cX1_clear 12 = .ok (.new 28, 3) := dk_187 0 28 (dk_at dksX1_clear_0 12 rfl rfl)
theorem dX1_clear_15 : decode cX1_clear 15 = .ok (.dup, 1) := dk_89 (dk_at dksX1_clear_0 15 rfl rfl)
theorem dX1_clear_16 : decode cX1_clear 16 = .ok (.invokespecial 30, 3) := dk_183 0 30 (dk_at dksX1_clear_0 16 rfl rfl)
theorem dX1_clear_19 : decode cX1_clear 19 = .ok (.putfield 31, 3) := dk_181 0 31 (dk_at dksX1_clear_0 19 rfl rfl)
theorem dX1_clear_22 : decode cX1_clear 22 = .ok (.aload_n 0, 1) := dk_42 (dk_at dksX1_clear_0 22 rfl rfl)
theorem dX1_clear_23 : decode cX1_clear 23 = .ok (.getfield 38, 3) := dk_180 0 38 (dk_at dksX1_clear_1 0 rfl rfl)
theorem dX1_clear_26 : decode cX1_clear 26 = .ok (.invokevirtual 77, 3) := dk_182 0 77 (dk_at dksX1_clear_1 3 rfl rfl)
theorem dX1_clear_29 : decode cX1_clear 29 = .ok (.iload_n 1, 1) := dk_27 (dk_at dksX1_clear_1 6 rfl rfl)
theorem dX1_clear_30 : decode cX1_clear 30 = .ok (.ireturn, 1) := dk_172 (dk_at dksX1_clear_1 7 rfl rfl)
abbrev cX1_isConsistent : ByteArray := prog_1_method_44_code
def yX1_isConsistent : MethodName := ⟨RX1, "isConsistent", "()Z"⟩
def dkwX1_isConsistent_0 : List UInt8 := [42, 180, 0, 31, 182, 1, 82, 172]
abbrev dktX1_isConsistent_0 : List UInt8 := dkwX1_isConsistent_0 ++ []
theorem dksX1_isConsistent_0 : cX1_isConsistent.data.toList.drop 0 = dktX1_isConsistent_0 := by decide +kernel
theorem dX1_isConsistent_0 : decode cX1_isConsistent 0 = .ok (.aload_n 0, 1) := dk_42 (dk_at dksX1_isConsistent_0 0 rfl rfl)
theorem dX1_isConsistent_1 : decode cX1_isConsistent 1 = .ok (.getfield 31, 3) := dk_180 0 31 (dk_at dksX1_isConsistent_0 1 rfl rfl)
theorem dX1_isConsistent_4 : decode cX1_isConsistent 4 = .ok (.invokevirtual 338, 3) := dk_182 1 82 (dk_at dksX1_isConsistent_0 4 rfl rfl)
theorem dX1_isConsistent_7 : decode cX1_isConsistent 7 = .ok (.ireturn, 1) := dk_172 (dk_at dksX1_isConsistent_0 7 rfl rfl)
abbrev cX1_inRange : ByteArray := prog_1_method_1_code
def yX1_inRange : MethodName := ⟨RX1, "inRange", "(JJJ)Z"⟩
def dkwX1_inRange_0 : List UInt8 := [30, 32, 148, 155, 0, 14, 30, 22, 4, 148, 157, 0, 7, 4, 167, 0, 4, 3, 172]
abbrev dktX1_inRange_0 : List UInt8 := dkwX1_inRange_0 ++ []
theorem dksX1_inRange_0 : cX1_inRange.data.toList.drop 0 = dktX1_inRange_0 := by decide +kernel
theorem dX1_inRange_0 : decode cX1_inRange 0 = .ok (.lload_n 0, 1) := dk_30 (dk_at dksX1_inRange_0 0 rfl rfl)
theorem dX1_inRange_1 : decode cX1_inRange 1 = .ok (.lload_n 2, 1) := dk_32 (dk_at dksX1_inRange_0 1 rfl rfl)
theorem dX1_inRange_2 : decode cX1_inRange 2 = .ok (.lcmp, 1) := dk_148 (dk_at dksX1_inRange_0 2 rfl rfl)
theorem dX1_inRange_3 : decode cX1_inRange 3 = .ok (.ifCond .lt 14, 3) := dk_155 0 14 (dk_at dksX1_inRange_0 3 rfl rfl)
theorem dX1_inRange_6 : decode cX1_inRange 6 = .ok (.lload_n 0, 1) := dk_30 (dk_at dksX1_inRange_0 6 rfl rfl)
theorem dX1_inRange_7 : decode cX1_inRange 7 = .ok (.lload 4, 2) := dk_22 4 (dk_at dksX1_inRange_0 7 rfl rfl)
theorem dX1_inRange_9 : decode cX1_inRange 9 = .ok (.lcmp, 1) := dk_148 (dk_at dksX1_inRange_0 9 rfl rfl)
theorem dX1_inRange_10 : decode cX1_inRange 10 = .ok (.ifCond .gt 7, 3) := dk_157 0 7 (dk_at dksX1_inRange_0 10 rfl rfl)
theorem dX1_inRange_13 : decode cX1_inRange 13 = .ok (.iconst 1, 1) := dk_4 (dk_at dksX1_inRange_0 13 rfl rfl)
theorem dX1_inRange_14 : decode cX1_inRange 14 = .ok (.goto 4, 3) := dk_167 0 4 (dk_at dksX1_inRange_0 14 rfl rfl)
theorem dX1_inRange_17 : decode cX1_inRange 17 = .ok (.iconst 0, 1) := dk_3 (dk_at dksX1_inRange_0 17 rfl rfl)
theorem dX1_inRange_18 : decode cX1_inRange 18 = .ok (.ireturn, 1) := dk_172 (dk_at dksX1_inRange_0 18 rfl rfl)
abbrev cX1_checkIndex : ByteArray := prog_1_method_3_code
def yX1_checkIndex : MethodName := ⟨RX1, "checkIndex", "(Z)V"⟩
def dkwX1_checkIndex_0 : List UInt8 := [26, 154, 0, 11, 187, 0, 7, 89, 183, 0, 9, 191, 177]
abbrev dktX1_checkIndex_0 : List UInt8 := dkwX1_checkIndex_0 ++ []
theorem dksX1_checkIndex_0 : cX1_checkIndex.data.toList.drop 0 = dktX1_checkIndex_0 := by decide +kernel
theorem dX1_checkIndex_0 : decode cX1_checkIndex 0 = .ok (.iload_n 0, 1) := dk_26 (dk_at dksX1_checkIndex_0 0 rfl rfl)
theorem dX1_checkIndex_1 : decode cX1_checkIndex 1 = .ok (.ifCond .ne 11, 3) := dk_154 0 11 (dk_at dksX1_checkIndex_0 1 rfl rfl)
theorem dX1_checkIndex_4 : decode cX1_checkIndex 4 = .ok (.new 7, 3) := dk_187 0 7 (dk_at dksX1_checkIndex_0 4 rfl rfl)
theorem dX1_checkIndex_7 : decode cX1_checkIndex 7 = .ok (.dup, 1) := dk_89 (dk_at dksX1_checkIndex_0 7 rfl rfl)
theorem dX1_checkIndex_8 : decode cX1_checkIndex 8 = .ok (.invokespecial 9, 3) := dk_183 0 9 (dk_at dksX1_checkIndex_0 8 rfl rfl)
theorem dX1_checkIndex_11 : decode cX1_checkIndex 11 = .ok (.athrow, 1) := dk_191 (dk_at dksX1_checkIndex_0 11 rfl rfl)
theorem dX1_checkIndex_12 : decode cX1_checkIndex 12 = .ok (.return_, 1) := dk_177 (dk_at dksX1_checkIndex_0 12 rfl rfl)
abbrev cX1_has : ByteArray := prog_1_method_7_code
def yX1_has : MethodName := ⟨RX1, "has", "(II)Z"⟩
def dkwX1_has_0 : List UInt8 := [26, 27, 122, 4, 126, 4, 160, 0, 7, 4, 167, 0, 4, 3, 172]
abbrev dktX1_has_0 : List UInt8 := dkwX1_has_0 ++ []
theorem dksX1_has_0 : cX1_has.data.toList.drop 0 = dktX1_has_0 := by decide +kernel
theorem dX1_has_0 : decode cX1_has 0 = .ok (.iload_n 0, 1) := dk_26 (dk_at dksX1_has_0 0 rfl rfl)
theorem dX1_has_1 : decode cX1_has 1 = .ok (.iload_n 1, 1) := dk_27 (dk_at dksX1_has_0 1 rfl rfl)
theorem dX1_has_2 : decode cX1_has 2 = .ok (.ishr, 1) := dk_122 (dk_at dksX1_has_0 2 rfl rfl)
theorem dX1_has_3 : decode cX1_has 3 = .ok (.iconst 1, 1) := dk_4 (dk_at dksX1_has_0 3 rfl rfl)
theorem dX1_has_4 : decode cX1_has 4 = .ok (.iand, 1) := dk_126 (dk_at dksX1_has_0 4 rfl rfl)
theorem dX1_has_5 : decode cX1_has 5 = .ok (.iconst 1, 1) := dk_4 (dk_at dksX1_has_0 5 rfl rfl)
theorem dX1_has_6 : decode cX1_has 6 = .ok (.if_icmp .ne 7, 3) := dk_160 0 7 (dk_at dksX1_has_0 6 rfl rfl)
theorem dX1_has_9 : decode cX1_has 9 = .ok (.iconst 1, 1) := dk_4 (dk_at dksX1_has_0 9 rfl rfl)
theorem dX1_has_10 : decode cX1_has 10 = .ok (.goto 4, 3) := dk_167 0 4 (dk_at dksX1_has_0 10 rfl rfl)
theorem dX1_has_13 : decode cX1_has 13 = .ok (.iconst 0, 1) := dk_3 (dk_at dksX1_has_0 13 rfl rfl)
theorem dX1_has_14 : decode cX1_has 14 = .ok (.ireturn, 1) := dk_172 (dk_at dksX1_has_0 14 rfl rfl)
abbrev cX1_dutiesOf : ByteArray := prog_1_method_10_code
def yX1_dutiesOf : MethodName := ⟨RX1, "dutiesOf", "(JI)I"⟩
def dkwX1_dutiesOf_0 : List UInt8 := [30, 16, 10, 28, 104, 123, 136, 17, 3, 255, 126, 172]
abbrev dktX1_dutiesOf_0 : List UInt8 := dkwX1_dutiesOf_0 ++ []
theorem dksX1_dutiesOf_0 : cX1_dutiesOf.data.toList.drop 0 = dktX1_dutiesOf_0 := by decide +kernel
theorem dX1_dutiesOf_0 : decode cX1_dutiesOf 0 = .ok (.lload_n 0, 1) := dk_30 (dk_at dksX1_dutiesOf_0 0 rfl rfl)
theorem dX1_dutiesOf_1 : decode cX1_dutiesOf 1 = .ok (.bipush 10, 2) := dk_16 10 (dk_at dksX1_dutiesOf_0 1 rfl rfl)
theorem dX1_dutiesOf_3 : decode cX1_dutiesOf 3 = .ok (.iload_n 2, 1) := dk_28 (dk_at dksX1_dutiesOf_0 3 rfl rfl)
theorem dX1_dutiesOf_4 : decode cX1_dutiesOf 4 = .ok (.imul, 1) := dk_104 (dk_at dksX1_dutiesOf_0 4 rfl rfl)
theorem dX1_dutiesOf_5 : decode cX1_dutiesOf 5 = .ok (.lshr, 1) := dk_123 (dk_at dksX1_dutiesOf_0 5 rfl rfl)
theorem dX1_dutiesOf_6 : decode cX1_dutiesOf 6 = .ok (.l2i, 1) := dk_136 (dk_at dksX1_dutiesOf_0 6 rfl rfl)
theorem dX1_dutiesOf_7 : decode cX1_dutiesOf 7 = .ok (.sipush 1023, 3) := dk_17 3 255 (dk_at dksX1_dutiesOf_0 7 rfl rfl)
theorem dX1_dutiesOf_10 : decode cX1_dutiesOf 10 = .ok (.iand, 1) := dk_126 (dk_at dksX1_dutiesOf_0 10 rfl rfl)
theorem dX1_dutiesOf_11 : decode cX1_dutiesOf 11 = .ok (.ireturn, 1) := dk_172 (dk_at dksX1_dutiesOf_0 11 rfl rfl)
abbrev cX1_snapshot : ByteArray := prog_1_method_55_code
def yX1_snapshot : MethodName := ⟨RX1, "snapshot", "()I"⟩
def dkwX1_snapshot_0 : List UInt8 := [42, 42, 180, 0, 31, 182, 0, 90, 181, 1, 144, 42, 180, 0, 31, 180, 0, 70, 182, 0, 74, 172]
abbrev dktX1_snapshot_0 : List UInt8 := dkwX1_snapshot_0 ++ []
theorem dksX1_snapshot_0 : cX1_snapshot.data.toList.drop 0 = dktX1_snapshot_0 := by decide +kernel
theorem dX1_snapshot_0 : decode cX1_snapshot 0 = .ok (.aload_n 0, 1) := dk_42 (dk_at dksX1_snapshot_0 0 rfl rfl)
theorem dX1_snapshot_1 : decode cX1_snapshot 1 = .ok (.aload_n 0, 1) := dk_42 (dk_at dksX1_snapshot_0 1 rfl rfl)
theorem dX1_snapshot_2 : decode cX1_snapshot 2 = .ok (.getfield 31, 3) := dk_180 0 31 (dk_at dksX1_snapshot_0 2 rfl rfl)
theorem dX1_snapshot_5 : decode cX1_snapshot 5 = .ok (.invokevirtual 90, 3) := dk_182 0 90 (dk_at dksX1_snapshot_0 5 rfl rfl)
theorem dX1_snapshot_8 : decode cX1_snapshot 8 = .ok (.putfield 400, 3) := dk_181 1 144 (dk_at dksX1_snapshot_0 8 rfl rfl)
theorem dX1_snapshot_11 : decode cX1_snapshot 11 = .ok (.aload_n 0, 1) := dk_42 (dk_at dksX1_snapshot_0 11 rfl rfl)
theorem dX1_snapshot_12 : decode cX1_snapshot 12 = .ok (.getfield 31, 3) := dk_180 0 31 (dk_at dksX1_snapshot_0 12 rfl rfl)
theorem dX1_snapshot_15 : decode cX1_snapshot 15 = .ok (.getfield 70, 3) := dk_180 0 70 (dk_at dksX1_snapshot_0 15 rfl rfl)
theorem dX1_snapshot_18 : decode cX1_snapshot 18 = .ok (.invokevirtual 74, 3) := dk_182 0 74 (dk_at dksX1_snapshot_0 18 rfl rfl)
theorem dX1_snapshot_21 : decode cX1_snapshot 21 = .ok (.ireturn, 1) := dk_172 (dk_at dksX1_snapshot_0 21 rfl rfl)
abbrev cX1_checkState : ByteArray := prog_1_method_4_code
def yX1_checkState : MethodName := ⟨RX1, "checkState", "(Z)V"⟩
def dkwX1_checkState_0 : List UInt8 := [26, 154, 0, 11, 187, 0, 10, 89, 183, 0, 12, 191, 177]
abbrev dktX1_checkState_0 : List UInt8 := dkwX1_checkState_0 ++ []
theorem dksX1_checkState_0 : cX1_checkState.data.toList.drop 0 = dktX1_checkState_0 := by decide +kernel
theorem dX1_checkState_0 : decode cX1_checkState 0 = .ok (.iload_n 0, 1) := dk_26 (dk_at dksX1_checkState_0 0 rfl rfl)
theorem dX1_checkState_1 : decode cX1_checkState 1 = .ok (.ifCond .ne 11, 3) := dk_154 0 11 (dk_at dksX1_checkState_0 1 rfl rfl)
theorem dX1_checkState_4 : decode cX1_checkState 4 = .ok (.new 10, 3) := dk_187 0 10 (dk_at dksX1_checkState_0 4 rfl rfl)
theorem dX1_checkState_7 : decode cX1_checkState 7 = .ok (.dup, 1) := dk_89 (dk_at dksX1_checkState_0 7 rfl rfl)
theorem dX1_checkState_8 : decode cX1_checkState 8 = .ok (.invokespecial 12, 3) := dk_183 0 12 (dk_at dksX1_checkState_0 8 rfl rfl)
theorem dX1_checkState_11 : decode cX1_checkState 11 = .ok (.athrow, 1) := dk_191 (dk_at dksX1_checkState_0 11 rfl rfl)
theorem dX1_checkState_12 : decode cX1_checkState 12 = .ok (.return_, 1) := dk_177 (dk_at dksX1_checkState_0 12 rfl rfl)
abbrev cX1_addLicence : ByteArray := prog_1_method_14_code
def yX1_addLicence : MethodName := ⟨RX1, "addLicence", "(III)I"⟩
def dkwX1_addLicence_3 : List UInt8 := [182, 0, 106, 21, 5, 172]
abbrev dktX1_addLicence_3 : List UInt8 := dkwX1_addLicence_3 ++ []
def dkwX1_addLicence_2 : List UInt8 := [180, 0, 31, 180, 0, 94, 187, 0, 97, 89, 27, 28, 29, 183, 0, 99, 182, 0, 102, 54, 5, 42, 25, 4]
abbrev dktX1_addLicence_2 : List UInt8 := dkwX1_addLicence_2 ++ dktX1_addLicence_3
def dkwX1_addLicence_1 : List UInt8 := [184, 0, 86, 153, 0, 7, 4, 167, 0, 4, 3, 184, 0, 21, 42, 180, 0, 31, 182, 0, 90, 58, 4, 42]
abbrev dktX1_addLicence_1 : List UInt8 := dkwX1_addLicence_1 ++ dktX1_addLicence_2
def dkwX1_addLicence_0 : List UInt8 := [27, 8, 184, 0, 80, 153, 0, 28, 28, 16, 10, 184, 0, 80, 153, 0, 19, 29, 133, 9, 20, 0, 84]
abbrev dktX1_addLicence_0 : List UInt8 := dkwX1_addLicence_0 ++ dktX1_addLicence_1
theorem dksX1_addLicence_0 : cX1_addLicence.data.toList.drop 0 = dktX1_addLicence_0 := by decide +kernel
theorem dksX1_addLicence_1 : cX1_addLicence.data.toList.drop 23 = dktX1_addLicence_1 := dk_seg dksX1_addLicence_0 23 rfl rfl
theorem dksX1_addLicence_2 : cX1_addLicence.data.toList.drop 47 = dktX1_addLicence_2 := dk_seg dksX1_addLicence_1 24 rfl rfl
theorem dksX1_addLicence_3 : cX1_addLicence.data.toList.drop 71 = dktX1_addLicence_3 := dk_seg dksX1_addLicence_2 24 rfl rfl
theorem dX1_addLicence_0 : decode cX1_addLicence 0 = .ok (.iload_n 1, 1) := dk_27 (dk_at dksX1_addLicence_0 0 rfl rfl)
theorem dX1_addLicence_1 : decode cX1_addLicence 1 = .ok (.iconst 5, 1) := dk_8 (dk_at dksX1_addLicence_0 1 rfl rfl)
theorem dX1_addLicence_2 : decode cX1_addLicence 2 = .ok (.invokestatic 80, 3) := dk_184 0 80 (dk_at dksX1_addLicence_0 2 rfl rfl)
theorem dX1_addLicence_5 : decode cX1_addLicence 5 = .ok (.ifCond .eq 28, 3) := dk_153 0 28 (dk_at dksX1_addLicence_0 5 rfl rfl)
theorem dX1_addLicence_8 : decode cX1_addLicence 8 = .ok (.iload_n 2, 1) := dk_28 (dk_at dksX1_addLicence_0 8 rfl rfl)
theorem dX1_addLicence_9 : decode cX1_addLicence 9 = .ok (.bipush 10, 2) := dk_16 10 (dk_at dksX1_addLicence_0 9 rfl rfl)
theorem dX1_addLicence_11 : decode cX1_addLicence 11 = .ok (.invokestatic 80, 3) := dk_184 0 80 (dk_at dksX1_addLicence_0 11 rfl rfl)
theorem dX1_addLicence_14 : decode cX1_addLicence 14 = .ok (.ifCond .eq 19, 3) := dk_153 0 19 (dk_at dksX1_addLicence_0 14 rfl rfl)
theorem dX1_addLicence_17 : decode cX1_addLicence 17 = .ok (.iload_n 3, 1) := dk_29 (dk_at dksX1_addLicence_0 17 rfl rfl)
theorem dX1_addLicence_18 : decode cX1_addLicence 18 = .ok (.i2l, 1) := dk_133 (dk_at dksX1_addLicence_0 18 rfl rfl)
theorem dX1_addLicence_19 : decode cX1_addLicence 19 = .ok (.lconst 0, 1) := dk_9 (dk_at dksX1_addLicence_0 19 rfl rfl)
theorem dX1_addLicence_20 : decode cX1_addLicence 20 = .ok (.ldc2_w 84, 3) := dk_20 0 84 (dk_at dksX1_addLicence_0 20 rfl rfl)
theorem dX1_addLicence_23 : decode cX1_addLicence 23 = .ok (.invokestatic 86, 3) := dk_184 0 86 (dk_at dksX1_addLicence_1 0 rfl rfl)
theorem dX1_addLicence_26 : decode cX1_addLicence 26 = .ok (.ifCond .eq 7, 3) := dk_153 0 7 (dk_at dksX1_addLicence_1 3 rfl rfl)
theorem dX1_addLicence_29 : decode cX1_addLicence 29 = .ok (.iconst 1, 1) := dk_4 (dk_at dksX1_addLicence_1 6 rfl rfl)
theorem dX1_addLicence_30 : decode cX1_addLicence 30 = .ok (.goto 4, 3) := dk_167 0 4 (dk_at dksX1_addLicence_1 7 rfl rfl)
theorem dX1_addLicence_33 : decode cX1_addLicence 33 = .ok (.iconst 0, 1) := dk_3 (dk_at dksX1_addLicence_1 10 rfl rfl)
theorem dX1_addLicence_34 : decode cX1_addLicence 34 = .ok (.invokestatic 21, 3) := dk_184 0 21 (dk_at dksX1_addLicence_1 11 rfl rfl)
theorem dX1_addLicence_37 : decode cX1_addLicence 37 = .ok (.aload_n 0, 1) := dk_42 (dk_at dksX1_addLicence_1 14 rfl rfl)
theorem dX1_addLicence_38 : decode cX1_addLicence 38 = .ok (.getfield 31, 3) := dk_180 0 31 (dk_at dksX1_addLicence_1 15 rfl rfl)
theorem dX1_addLicence_41 : decode cX1_addLicence 41 = .ok (.invokevirtual 90, 3) := dk_182 0 90 (dk_at dksX1_addLicence_1 18 rfl rfl)
theorem dX1_addLicence_44 : decode cX1_addLicence 44 = .ok (.astore 4, 2) := dk_58 4 (dk_at dksX1_addLicence_1 21 rfl rfl)
theorem dX1_addLicence_46 : decode cX1_addLicence 46 = .ok (.aload_n 0, 1) := dk_42 (dk_at dksX1_addLicence_1 23 rfl rfl)
theorem dX1_addLicence_47 : decode cX1_addLicence 47 = .ok (.getfield 31, 3) := dk_180 0 31 (dk_at dksX1_addLicence_2 0 rfl rfl)
theorem dX1_addLicence_50 : decode cX1_addLicence 50 = .ok (.getfield 94, 3) := dk_180 0 94 (dk_at dksX1_addLicence_2 3 rfl rfl)
theorem dX1_addLicence_53 : decode cX1_addLicence 53 = .ok (.new 97, 3) := dk_187 0 97 (dk_at dksX1_addLicence_2 6 rfl rfl)
theorem dX1_addLicence_56 : decode cX1_addLicence 56 = .ok (.dup, 1) := dk_89 (dk_at dksX1_addLicence_2 9 rfl rfl)
theorem dX1_addLicence_57 : decode cX1_addLicence 57 = .ok (.iload_n 1, 1) := dk_27 (dk_at dksX1_addLicence_2 10 rfl rfl)
theorem dX1_addLicence_58 : decode cX1_addLicence 58 = .ok (.iload_n 2, 1) := dk_28 (dk_at dksX1_addLicence_2 11 rfl rfl)
theorem dX1_addLicence_59 : decode cX1_addLicence 59 = .ok (.iload_n 3, 1) := dk_29 (dk_at dksX1_addLicence_2 12 rfl rfl)
theorem dX1_addLicence_60 : decode cX1_addLicence 60 = .ok (.invokespecial 99, 3) := dk_183 0 99 (dk_at dksX1_addLicence_2 13 rfl rfl)
theorem dX1_addLicence_63 : decode cX1_addLicence 63 = .ok (.invokevirtual 102, 3) := dk_182 0 102 (dk_at dksX1_addLicence_2 16 rfl rfl)
theorem dX1_addLicence_66 : decode cX1_addLicence 66 = .ok (.istore 5, 2) := dk_54 5 (dk_at dksX1_addLicence_2 19 rfl rfl)
theorem dX1_addLicence_68 : decode cX1_addLicence 68 = .ok (.aload_n 0, 1) := dk_42 (dk_at dksX1_addLicence_2 21 rfl rfl)
theorem dX1_addLicence_69 : decode cX1_addLicence 69 = .ok (.aload 4, 2) := dk_25 4 (dk_at dksX1_addLicence_2 22 rfl rfl)
theorem dX1_addLicence_71 : decode cX1_addLicence 71 = .ok (.invokevirtual 106, 3) := dk_182 0 106 (dk_at dksX1_addLicence_3 0 rfl rfl)
theorem dX1_addLicence_74 : decode cX1_addLicence 74 = .ok (.iload 5, 2) := dk_21 5 (dk_at dksX1_addLicence_3 3 rfl rfl)
theorem dX1_addLicence_76 : decode cX1_addLicence 76 = .ok (.ireturn, 1) := dk_172 (dk_at dksX1_addLicence_3 5 rfl rfl)
abbrev cX1_isSet : ByteArray := prog_1_method_8_code
def yX1_isSet : MethodName := ⟨RX1, "isSet", "(II)Z"⟩
def dkwX1_isSet_0 : List UInt8 := [26, 155, 0, 13, 26, 27, 122, 154, 0, 7, 4, 167, 0, 4, 3, 172]
abbrev dktX1_isSet_0 : List UInt8 := dkwX1_isSet_0 ++ []
theorem dksX1_isSet_0 : cX1_isSet.data.toList.drop 0 = dktX1_isSet_0 := by decide +kernel
theorem dX1_isSet_0 : decode cX1_isSet 0 = .ok (.iload_n 0, 1) := dk_26 (dk_at dksX1_isSet_0 0 rfl rfl)
theorem dX1_isSet_1 : decode cX1_isSet 1 = .ok (.ifCond .lt 13, 3) := dk_155 0 13 (dk_at dksX1_isSet_0 1 rfl rfl)
theorem dX1_isSet_4 : decode cX1_isSet 4 = .ok (.iload_n 0, 1) := dk_26 (dk_at dksX1_isSet_0 4 rfl rfl)
theorem dX1_isSet_5 : decode cX1_isSet 5 = .ok (.iload_n 1, 1) := dk_27 (dk_at dksX1_isSet_0 5 rfl rfl)
theorem dX1_isSet_6 : decode cX1_isSet 6 = .ok (.ishr, 1) := dk_122 (dk_at dksX1_isSet_0 6 rfl rfl)
theorem dX1_isSet_7 : decode cX1_isSet 7 = .ok (.ifCond .ne 7, 3) := dk_154 0 7 (dk_at dksX1_isSet_0 7 rfl rfl)
theorem dX1_isSet_10 : decode cX1_isSet 10 = .ok (.iconst 1, 1) := dk_4 (dk_at dksX1_isSet_0 10 rfl rfl)
theorem dX1_isSet_11 : decode cX1_isSet 11 = .ok (.goto 4, 3) := dk_167 0 4 (dk_at dksX1_isSet_0 11 rfl rfl)
theorem dX1_isSet_14 : decode cX1_isSet 14 = .ok (.iconst 0, 1) := dk_3 (dk_at dksX1_isSet_0 14 rfl rfl)
theorem dX1_isSet_15 : decode cX1_isSet 15 = .ok (.ireturn, 1) := dk_172 (dk_at dksX1_isSet_0 15 rfl rfl)
abbrev cX1_checkArgument : ByteArray := prog_1_method_2_code
def yX1_checkArgument : MethodName := ⟨RX1, "checkArgument", "(Z)V"⟩
def dkwX1_checkArgument_0 : List UInt8 := [26, 154, 0, 11, 187, 0, 1, 89, 183, 0, 3, 191, 177]
abbrev dktX1_checkArgument_0 : List UInt8 := dkwX1_checkArgument_0 ++ []
theorem dksX1_checkArgument_0 : cX1_checkArgument.data.toList.drop 0 = dktX1_checkArgument_0 := by decide +kernel
theorem dX1_checkArgument_0 : decode cX1_checkArgument 0 = .ok (.iload_n 0, 1) := dk_26 (dk_at dksX1_checkArgument_0 0 rfl rfl)
theorem dX1_checkArgument_1 : decode cX1_checkArgument 1 = .ok (.ifCond .ne 11, 3) := dk_154 0 11 (dk_at dksX1_checkArgument_0 1 rfl rfl)
theorem dX1_checkArgument_4 : decode cX1_checkArgument 4 = .ok (.new 1, 3) := dk_187 0 1 (dk_at dksX1_checkArgument_0 4 rfl rfl)
theorem dX1_checkArgument_7 : decode cX1_checkArgument 7 = .ok (.dup, 1) := dk_89 (dk_at dksX1_checkArgument_0 7 rfl rfl)
theorem dX1_checkArgument_8 : decode cX1_checkArgument 8 = .ok (.invokespecial 3, 3) := dk_183 0 3 (dk_at dksX1_checkArgument_0 8 rfl rfl)
theorem dX1_checkArgument_11 : decode cX1_checkArgument 11 = .ok (.athrow, 1) := dk_191 (dk_at dksX1_checkArgument_0 11 rfl rfl)
theorem dX1_checkArgument_12 : decode cX1_checkArgument 12 = .ok (.return_, 1) := dk_177 (dk_at dksX1_checkArgument_0 12 rfl rfl)
abbrev cX1_keep : ByteArray := prog_1_method_12_code
def yX1_keep : MethodName := ⟨RX1, "keep", "(LTermsDesk$Desk;)V"⟩
def dkwX1_keep_1 : List UInt8 := [180, 0, 38, 43, 182, 0, 66, 177]
abbrev dktX1_keep_1 : List UInt8 := dkwX1_keep_1 ++ []
def dkwX1_keep_0 : List UInt8 := [42, 180, 0, 38, 182, 0, 58, 16, 8, 160, 0, 14, 42, 180, 0, 38, 182, 0, 62, 192, 0, 28, 77, 42]
abbrev dktX1_keep_0 : List UInt8 := dkwX1_keep_0 ++ dktX1_keep_1
theorem dksX1_keep_0 : cX1_keep.data.toList.drop 0 = dktX1_keep_0 := by decide +kernel
theorem dksX1_keep_1 : cX1_keep.data.toList.drop 24 = dktX1_keep_1 := dk_seg dksX1_keep_0 24 rfl rfl
theorem dX1_keep_0 : decode cX1_keep 0 = .ok (.aload_n 0, 1) := dk_42 (dk_at dksX1_keep_0 0 rfl rfl)
theorem dX1_keep_1 : decode cX1_keep 1 = .ok (.getfield 38, 3) := dk_180 0 38 (dk_at dksX1_keep_0 1 rfl rfl)
theorem dX1_keep_4 : decode cX1_keep 4 = .ok (.invokevirtual 58, 3) := dk_182 0 58 (dk_at dksX1_keep_0 4 rfl rfl)
theorem dX1_keep_7 : decode cX1_keep 7 = .ok (.bipush 8, 2) := dk_16 8 (dk_at dksX1_keep_0 7 rfl rfl)
theorem dX1_keep_9 : decode cX1_keep 9 = .ok (.if_icmp .ne 14, 3) := dk_160 0 14 (dk_at dksX1_keep_0 9 rfl rfl)
theorem dX1_keep_12 : decode cX1_keep 12 = .ok (.aload_n 0, 1) := dk_42 (dk_at dksX1_keep_0 12 rfl rfl)
theorem dX1_keep_13 : decode cX1_keep 13 = .ok (.getfield 38, 3) := dk_180 0 38 (dk_at dksX1_keep_0 13 rfl rfl)
theorem dX1_keep_16 : decode cX1_keep 16 = .ok (.invokevirtual 62, 3) := dk_182 0 62 (dk_at dksX1_keep_0 16 rfl rfl)
theorem dX1_keep_19 : decode cX1_keep 19 = .ok (.checkcast 28, 3) := dk_192 0 28 (dk_at dksX1_keep_0 19 rfl rfl)
theorem dX1_keep_22 : decode cX1_keep 22 = .ok (.astore_n 2, 1) := dk_77 (dk_at dksX1_keep_0 22 rfl rfl)
theorem dX1_keep_23 : decode cX1_keep 23 = .ok (.aload_n 0, 1) := dk_42 (dk_at dksX1_keep_0 23 rfl rfl)
theorem dX1_keep_24 : decode cX1_keep 24 = .ok (.getfield 38, 3) := dk_180 0 38 (dk_at dksX1_keep_1 0 rfl rfl)
theorem dX1_keep_27 : decode cX1_keep 27 = .ok (.aload_n 1, 1) := dk_43 (dk_at dksX1_keep_1 3 rfl rfl)
theorem dX1_keep_28 : decode cX1_keep 28 = .ok (.invokevirtual 66, 3) := dk_182 0 66 (dk_at dksX1_keep_1 4 rfl rfl)
theorem dX1_keep_31 : decode cX1_keep 31 = .ok (.return_, 1) := dk_177 (dk_at dksX1_keep_1 7 rfl rfl)
abbrev cX1_demand : ByteArray := prog_1_method_15_code
def yX1_demand : MethodName := ⟨RX1, "demand", "(III)I"⟩
def dkwX1_demand_2 : List UInt8 := [172]
abbrev dktX1_demand_2 : List UInt8 := dkwX1_demand_2 ++ []
def dkwX1_demand_1 : List UInt8 := [184, 0, 80, 184, 0, 21, 42, 42, 180, 0, 31, 182, 0, 90, 182, 0, 106, 25, 4, 28, 29, 182, 0, 119]
abbrev dktX1_demand_1 : List UInt8 := dkwX1_demand_1 ++ dktX1_demand_2
def dkwX1_demand_0 : List UInt8 := [42, 27, 182, 0, 110, 58, 4, 28, 133, 9, 20, 0, 114, 184, 0, 86, 184, 0, 116, 29, 16, 10]
abbrev dktX1_demand_0 : List UInt8 := dkwX1_demand_0 ++ dktX1_demand_1
theorem dksX1_demand_0 : cX1_demand.data.toList.drop 0 = dktX1_demand_0 := by decide +kernel
theorem dksX1_demand_1 : cX1_demand.data.toList.drop 22 = dktX1_demand_1 := dk_seg dksX1_demand_0 22 rfl rfl
theorem dksX1_demand_2 : cX1_demand.data.toList.drop 46 = dktX1_demand_2 := dk_seg dksX1_demand_1 24 rfl rfl
theorem dX1_demand_0 : decode cX1_demand 0 = .ok (.aload_n 0, 1) := dk_42 (dk_at dksX1_demand_0 0 rfl rfl)
theorem dX1_demand_1 : decode cX1_demand 1 = .ok (.iload_n 1, 1) := dk_27 (dk_at dksX1_demand_0 1 rfl rfl)
theorem dX1_demand_2 : decode cX1_demand 2 = .ok (.invokevirtual 110, 3) := dk_182 0 110 (dk_at dksX1_demand_0 2 rfl rfl)
theorem dX1_demand_5 : decode cX1_demand 5 = .ok (.astore 4, 2) := dk_58 4 (dk_at dksX1_demand_0 5 rfl rfl)
theorem dX1_demand_7 : decode cX1_demand 7 = .ok (.iload_n 2, 1) := dk_28 (dk_at dksX1_demand_0 7 rfl rfl)
theorem dX1_demand_8 : decode cX1_demand 8 = .ok (.i2l, 1) := dk_133 (dk_at dksX1_demand_0 8 rfl rfl)
theorem dX1_demand_9 : decode cX1_demand 9 = .ok (.lconst 0, 1) := dk_9 (dk_at dksX1_demand_0 9 rfl rfl)
theorem dX1_demand_10 : decode cX1_demand 10 = .ok (.ldc2_w 114, 3) := dk_20 0 114 (dk_at dksX1_demand_0 10 rfl rfl)
theorem dX1_demand_13 : decode cX1_demand 13 = .ok (.invokestatic 86, 3) := dk_184 0 86 (dk_at dksX1_demand_0 13 rfl rfl)
theorem dX1_demand_16 : decode cX1_demand 16 = .ok (.invokestatic 116, 3) := dk_184 0 116 (dk_at dksX1_demand_0 16 rfl rfl)
theorem dX1_demand_19 : decode cX1_demand 19 = .ok (.iload_n 3, 1) := dk_29 (dk_at dksX1_demand_0 19 rfl rfl)
theorem dX1_demand_20 : decode cX1_demand 20 = .ok (.bipush 10, 2) := dk_16 10 (dk_at dksX1_demand_0 20 rfl rfl)
theorem dX1_demand_22 : decode cX1_demand 22 = .ok (.invokestatic 80, 3) := dk_184 0 80 (dk_at dksX1_demand_1 0 rfl rfl)
theorem dX1_demand_25 : decode cX1_demand 25 = .ok (.invokestatic 21, 3) := dk_184 0 21 (dk_at dksX1_demand_1 3 rfl rfl)
theorem dX1_demand_28 : decode cX1_demand 28 = .ok (.aload_n 0, 1) := dk_42 (dk_at dksX1_demand_1 6 rfl rfl)
theorem dX1_demand_29 : decode cX1_demand 29 = .ok (.aload_n 0, 1) := dk_42 (dk_at dksX1_demand_1 7 rfl rfl)
theorem dX1_demand_30 : decode cX1_demand 30 = .ok (.getfield 31, 3) := dk_180 0 31 (dk_at dksX1_demand_1 8 rfl rfl)
theorem dX1_demand_33 : decode cX1_demand 33 = .ok (.invokevirtual 90, 3) := dk_182 0 90 (dk_at dksX1_demand_1 11 rfl rfl)
theorem dX1_demand_36 : decode cX1_demand 36 = .ok (.invokevirtual 106, 3) := dk_182 0 106 (dk_at dksX1_demand_1 14 rfl rfl)
theorem dX1_demand_39 : decode cX1_demand 39 = .ok (.aload 4, 2) := dk_25 4 (dk_at dksX1_demand_1 17 rfl rfl)
theorem dX1_demand_41 : decode cX1_demand 41 = .ok (.iload_n 2, 1) := dk_28 (dk_at dksX1_demand_1 19 rfl rfl)
theorem dX1_demand_42 : decode cX1_demand 42 = .ok (.iload_n 3, 1) := dk_29 (dk_at dksX1_demand_1 20 rfl rfl)
theorem dX1_demand_43 : decode cX1_demand 43 = .ok (.invokevirtual 119, 3) := dk_182 0 119 (dk_at dksX1_demand_1 21 rfl rfl)
theorem dX1_demand_46 : decode cX1_demand 46 = .ok (.ireturn, 1) := dk_172 (dk_at dksX1_demand_2 0 rfl rfl)
abbrev cX1_licenceAt : ByteArray := prog_1_method_22_code
def yX1_licenceAt : MethodName := ⟨RX1, "licenceAt", "(I)LTermsDesk$Licence;"⟩
def dkwX1_licenceAt_1 : List UInt8 := [180, 0, 31, 180, 0, 94, 27, 182, 0, 159, 192, 0, 97, 176]
abbrev dktX1_licenceAt_1 : List UInt8 := dkwX1_licenceAt_1 ++ []
def dkwX1_licenceAt_0 : List UInt8 := [27, 133, 9, 42, 180, 0, 31, 180, 0, 94, 182, 0, 74, 4, 100, 133, 184, 0, 86, 184, 0, 116, 42]
abbrev dktX1_licenceAt_0 : List UInt8 := dkwX1_licenceAt_0 ++ dktX1_licenceAt_1
theorem dksX1_licenceAt_0 : cX1_licenceAt.data.toList.drop 0 = dktX1_licenceAt_0 := by decide +kernel
theorem dksX1_licenceAt_1 : cX1_licenceAt.data.toList.drop 23 = dktX1_licenceAt_1 := dk_seg dksX1_licenceAt_0 23 rfl rfl
theorem dX1_licenceAt_0 : decode cX1_licenceAt 0 = .ok (.iload_n 1, 1) := dk_27 (dk_at dksX1_licenceAt_0 0 rfl rfl)
theorem dX1_licenceAt_1 : decode cX1_licenceAt 1 = .ok (.i2l, 1) := dk_133 (dk_at dksX1_licenceAt_0 1 rfl rfl)
theorem dX1_licenceAt_2 : decode cX1_licenceAt 2 = .ok (.lconst 0, 1) := dk_9 (dk_at dksX1_licenceAt_0 2 rfl rfl)
theorem dX1_licenceAt_3 : decode cX1_licenceAt 3 = .ok (.aload_n 0, 1) := dk_42 (dk_at dksX1_licenceAt_0 3 rfl rfl)
theorem dX1_licenceAt_4 : decode cX1_licenceAt 4 = .ok (.getfield 31, 3) := dk_180 0 31 (dk_at dksX1_licenceAt_0 4 rfl rfl)
theorem dX1_licenceAt_7 : decode cX1_licenceAt 7 = .ok (.getfield 94, 3) := dk_180 0 94 (dk_at dksX1_licenceAt_0 7 rfl rfl)
theorem dX1_licenceAt_10 : decode cX1_licenceAt 10 = .ok (.invokevirtual 74, 3) := dk_182 0 74 (dk_at dksX1_licenceAt_0 10 rfl rfl)
theorem dX1_licenceAt_13 : decode cX1_licenceAt 13 = .ok (.iconst 1, 1) := dk_4 (dk_at dksX1_licenceAt_0 13 rfl rfl)
theorem dX1_licenceAt_14 : decode cX1_licenceAt 14 = .ok (.isub, 1) := dk_100 (dk_at dksX1_licenceAt_0 14 rfl rfl)
theorem dX1_licenceAt_15 : decode cX1_licenceAt 15 = .ok (.i2l, 1) := dk_133 (dk_at dksX1_licenceAt_0 15 rfl rfl)
theorem dX1_licenceAt_16 : decode cX1_licenceAt 16 = .ok (.invokestatic 86, 3) := dk_184 0 86 (dk_at dksX1_licenceAt_0 16 rfl rfl)
theorem dX1_licenceAt_19 : decode cX1_licenceAt 19 = .ok (.invokestatic 116, 3) := dk_184 0 116 (dk_at dksX1_licenceAt_0 19 rfl rfl)
theorem dX1_licenceAt_22 : decode cX1_licenceAt 22 = .ok (.aload_n 0, 1) := dk_42 (dk_at dksX1_licenceAt_0 22 rfl rfl)
theorem dX1_licenceAt_23 : decode cX1_licenceAt 23 = .ok (.getfield 31, 3) := dk_180 0 31 (dk_at dksX1_licenceAt_1 0 rfl rfl)
theorem dX1_licenceAt_26 : decode cX1_licenceAt 26 = .ok (.getfield 94, 3) := dk_180 0 94 (dk_at dksX1_licenceAt_1 3 rfl rfl)
theorem dX1_licenceAt_29 : decode cX1_licenceAt 29 = .ok (.iload_n 1, 1) := dk_27 (dk_at dksX1_licenceAt_1 6 rfl rfl)
theorem dX1_licenceAt_30 : decode cX1_licenceAt 30 = .ok (.invokevirtual 159, 3) := dk_182 0 159 (dk_at dksX1_licenceAt_1 7 rfl rfl)
theorem dX1_licenceAt_33 : decode cX1_licenceAt 33 = .ok (.checkcast 97, 3) := dk_192 0 97 (dk_at dksX1_licenceAt_1 10 rfl rfl)
theorem dX1_licenceAt_36 : decode cX1_licenceAt 36 = .ok (.areturn, 1) := dk_176 (dk_at dksX1_licenceAt_1 13 rfl rfl)
abbrev cX1_addFile : ByteArray := prog_1_method_17_code
def yX1_addFile : MethodName := ⟨RX1, "addFile", "(III)I"⟩
def dkwX1_addFile_1 : List UInt8 := [182, 0, 106, 21, 5, 172]
abbrev dktX1_addFile_1 : List UInt8 := dkwX1_addFile_1 ++ []
def dkwX1_addFile_0 : List UInt8 := [42, 180, 0, 31, 182, 0, 90, 58, 4, 42, 180, 0, 31, 27, 28, 29, 184, 0, 130, 54, 5, 42, 25, 4]
abbrev dktX1_addFile_0 : List UInt8 := dkwX1_addFile_0 ++ dktX1_addFile_1
theorem dksX1_addFile_0 : cX1_addFile.data.toList.drop 0 = dktX1_addFile_0 := by decide +kernel
theorem dksX1_addFile_1 : cX1_addFile.data.toList.drop 24 = dktX1_addFile_1 := dk_seg dksX1_addFile_0 24 rfl rfl
theorem dX1_addFile_0 : decode cX1_addFile 0 = .ok (.aload_n 0, 1) := dk_42 (dk_at dksX1_addFile_0 0 rfl rfl)
theorem dX1_addFile_1 : decode cX1_addFile 1 = .ok (.getfield 31, 3) := dk_180 0 31 (dk_at dksX1_addFile_0 1 rfl rfl)
theorem dX1_addFile_4 : decode cX1_addFile 4 = .ok (.invokevirtual 90, 3) := dk_182 0 90 (dk_at dksX1_addFile_0 4 rfl rfl)
theorem dX1_addFile_7 : decode cX1_addFile 7 = .ok (.astore 4, 2) := dk_58 4 (dk_at dksX1_addFile_0 7 rfl rfl)
theorem dX1_addFile_9 : decode cX1_addFile 9 = .ok (.aload_n 0, 1) := dk_42 (dk_at dksX1_addFile_0 9 rfl rfl)
theorem dX1_addFile_10 : decode cX1_addFile 10 = .ok (.getfield 31, 3) := dk_180 0 31 (dk_at dksX1_addFile_0 10 rfl rfl)
theorem dX1_addFile_13 : decode cX1_addFile 13 = .ok (.iload_n 1, 1) := dk_27 (dk_at dksX1_addFile_0 13 rfl rfl)
theorem dX1_addFile_14 : decode cX1_addFile 14 = .ok (.iload_n 2, 1) := dk_28 (dk_at dksX1_addFile_0 14 rfl rfl)
theorem dX1_addFile_15 : decode cX1_addFile 15 = .ok (.iload_n 3, 1) := dk_29 (dk_at dksX1_addFile_0 15 rfl rfl)
theorem dX1_addFile_16 : decode cX1_addFile 16 = .ok (.invokestatic 130, 3) := dk_184 0 130 (dk_at dksX1_addFile_0 16 rfl rfl)
theorem dX1_addFile_19 : decode cX1_addFile 19 = .ok (.istore 5, 2) := dk_54 5 (dk_at dksX1_addFile_0 19 rfl rfl)
theorem dX1_addFile_21 : decode cX1_addFile 21 = .ok (.aload_n 0, 1) := dk_42 (dk_at dksX1_addFile_0 21 rfl rfl)
theorem dX1_addFile_22 : decode cX1_addFile 22 = .ok (.aload 4, 2) := dk_25 4 (dk_at dksX1_addFile_0 22 rfl rfl)
theorem dX1_addFile_24 : decode cX1_addFile 24 = .ok (.invokevirtual 106, 3) := dk_182 0 106 (dk_at dksX1_addFile_1 0 rfl rfl)
theorem dX1_addFile_27 : decode cX1_addFile 27 = .ok (.iload 5, 2) := dk_21 5 (dk_at dksX1_addFile_1 3 rfl rfl)
theorem dX1_addFile_29 : decode cX1_addFile 29 = .ok (.ireturn, 1) := dk_172 (dk_at dksX1_addFile_1 5 rfl rfl)
abbrev cX1_addFile_2 : ByteArray := prog_1_method_16_code
def yX1_addFile_2 : MethodName := ⟨RX1, "addFile", "(LTermsDesk$Desk;III)I"⟩
def dkwX1_addFile_2_3 : List UInt8 := [42, 180, 0, 70, 187, 0, 127, 89, 27, 28, 29, 183, 0, 129, 182, 0, 102, 172]
abbrev dktX1_addFile_2_3 : List UInt8 := dkwX1_addFile_2_3 ++ []
def dkwX1_addFile_2_2 : List UInt8 := [28, 159, 0, 19, 29, 133, 10, 20, 0, 125, 184, 0, 86, 153, 0, 7, 4, 167, 0, 4, 3, 184, 0, 21]
abbrev dktX1_addFile_2_2 : List UInt8 := dkwX1_addFile_2_2 ++ dktX1_addFile_2_3
def dkwX1_addFile_2_1 : List UInt8 := [133, 20, 0, 123, 21, 4, 4, 100, 133, 184, 0, 86, 153, 0, 7, 4, 167, 0, 4, 3, 184, 0, 116, 27]
abbrev dktX1_addFile_2_1 : List UInt8 := dkwX1_addFile_2_1 ++ dktX1_addFile_2_2
def dkwX1_addFile_2_0 : List UInt8 := [42, 180, 0, 94, 182, 0, 74, 54, 4, 27, 133, 9, 21, 4, 4, 100, 133, 184, 0, 86, 153, 0, 23, 28]
abbrev dktX1_addFile_2_0 : List UInt8 := dkwX1_addFile_2_0 ++ dktX1_addFile_2_1
theorem dksX1_addFile_2_0 : cX1_addFile_2.data.toList.drop 0 = dktX1_addFile_2_0 := by decide +kernel
theorem dksX1_addFile_2_1 : cX1_addFile_2.data.toList.drop 24 = dktX1_addFile_2_1 := dk_seg dksX1_addFile_2_0 24 rfl rfl
theorem dksX1_addFile_2_2 : cX1_addFile_2.data.toList.drop 48 = dktX1_addFile_2_2 := dk_seg dksX1_addFile_2_1 24 rfl rfl
theorem dksX1_addFile_2_3 : cX1_addFile_2.data.toList.drop 72 = dktX1_addFile_2_3 := dk_seg dksX1_addFile_2_2 24 rfl rfl
theorem dX1_addFile_2_0 : decode cX1_addFile_2 0 = .ok (.aload_n 0, 1) := dk_42 (dk_at dksX1_addFile_2_0 0 rfl rfl)
theorem dX1_addFile_2_1 : decode cX1_addFile_2 1 = .ok (.getfield 94, 3) := dk_180 0 94 (dk_at dksX1_addFile_2_0 1 rfl rfl)
theorem dX1_addFile_2_4 : decode cX1_addFile_2 4 = .ok (.invokevirtual 74, 3) := dk_182 0 74 (dk_at dksX1_addFile_2_0 4 rfl rfl)
theorem dX1_addFile_2_7 : decode cX1_addFile_2 7 = .ok (.istore 4, 2) := dk_54 4 (dk_at dksX1_addFile_2_0 7 rfl rfl)
theorem dX1_addFile_2_9 : decode cX1_addFile_2 9 = .ok (.iload_n 1, 1) := dk_27 (dk_at dksX1_addFile_2_0 9 rfl rfl)
theorem dX1_addFile_2_10 : decode cX1_addFile_2 10 = .ok (.i2l, 1) := dk_133 (dk_at dksX1_addFile_2_0 10 rfl rfl)
theorem dX1_addFile_2_11 : decode cX1_addFile_2 11 = .ok (.lconst 0, 1) := dk_9 (dk_at dksX1_addFile_2_0 11 rfl rfl)
theorem dX1_addFile_2_12 : decode cX1_addFile_2 12 = .ok (.iload 4, 2) := dk_21 4 (dk_at dksX1_addFile_2_0 12 rfl rfl)
theorem dX1_addFile_2_14 : decode cX1_addFile_2 14 = .ok (.iconst 1, 1) := dk_4 (dk_at dksX1_addFile_2_0 14 rfl rfl)
theorem dX1_addFile_2_15 : decode cX1_addFile_2 15 = .ok (.isub, 1) := dk_100 (dk_at dksX1_addFile_2_0 15 rfl rfl)
theorem dX1_addFile_2_16 : decode cX1_addFile_2 16 = .ok (.i2l, 1) := dk_133 (dk_at dksX1_addFile_2_0 16 rfl rfl)
theorem dX1_addFile_2_17 : decode cX1_addFile_2 17 = .ok (.invokestatic 86, 3) := dk_184 0 86 (dk_at dksX1_addFile_2_0 17 rfl rfl)
theorem dX1_addFile_2_20 : decode cX1_addFile_2 20 = .ok (.ifCond .eq 23, 3) := dk_153 0 23 (dk_at dksX1_addFile_2_0 20 rfl rfl)
theorem dX1_addFile_2_23 : decode cX1_addFile_2 23 = .ok (.iload_n 2, 1) := dk_28 (dk_at dksX1_addFile_2_0 23 rfl rfl)
theorem dX1_addFile_2_24 : decode cX1_addFile_2 24 = .ok (.i2l, 1) := dk_133 (dk_at dksX1_addFile_2_1 0 rfl rfl)
theorem dX1_addFile_2_25 : decode cX1_addFile_2 25 = .ok (.ldc2_w 123, 3) := dk_20 0 123 (dk_at dksX1_addFile_2_1 1 rfl rfl)
theorem dX1_addFile_2_28 : decode cX1_addFile_2 28 = .ok (.iload 4, 2) := dk_21 4 (dk_at dksX1_addFile_2_1 4 rfl rfl)
theorem dX1_addFile_2_30 : decode cX1_addFile_2 30 = .ok (.iconst 1, 1) := dk_4 (dk_at dksX1_addFile_2_1 6 rfl rfl)
theorem dX1_addFile_2_31 : decode cX1_addFile_2 31 = .ok (.isub, 1) := dk_100 (dk_at dksX1_addFile_2_1 7 rfl rfl)
theorem dX1_addFile_2_32 : decode cX1_addFile_2 32 = .ok (.i2l, 1) := dk_133 (dk_at dksX1_addFile_2_1 8 rfl rfl)
theorem dX1_addFile_2_33 : decode cX1_addFile_2 33 = .ok (.invokestatic 86, 3) := dk_184 0 86 (dk_at dksX1_addFile_2_1 9 rfl rfl)
theorem dX1_addFile_2_36 : decode cX1_addFile_2 36 = .ok (.ifCond .eq 7, 3) := dk_153 0 7 (dk_at dksX1_addFile_2_1 12 rfl rfl)
theorem dX1_addFile_2_39 : decode cX1_addFile_2 39 = .ok (.iconst 1, 1) := dk_4 (dk_at dksX1_addFile_2_1 15 rfl rfl)
theorem dX1_addFile_2_40 : decode cX1_addFile_2 40 = .ok (.goto 4, 3) := dk_167 0 4 (dk_at dksX1_addFile_2_1 16 rfl rfl)
theorem dX1_addFile_2_43 : decode cX1_addFile_2 43 = .ok (.iconst 0, 1) := dk_3 (dk_at dksX1_addFile_2_1 19 rfl rfl)
theorem dX1_addFile_2_44 : decode cX1_addFile_2 44 = .ok (.invokestatic 116, 3) := dk_184 0 116 (dk_at dksX1_addFile_2_1 20 rfl rfl)
theorem dX1_addFile_2_47 : decode cX1_addFile_2 47 = .ok (.iload_n 1, 1) := dk_27 (dk_at dksX1_addFile_2_1 23 rfl rfl)
theorem dX1_addFile_2_48 : decode cX1_addFile_2 48 = .ok (.iload_n 2, 1) := dk_28 (dk_at dksX1_addFile_2_2 0 rfl rfl)
theorem dX1_addFile_2_49 : decode cX1_addFile_2 49 = .ok (.if_icmp .eq 19, 3) := dk_159 0 19 (dk_at dksX1_addFile_2_2 1 rfl rfl)
theorem dX1_addFile_2_52 : decode cX1_addFile_2 52 = .ok (.iload_n 3, 1) := dk_29 (dk_at dksX1_addFile_2_2 4 rfl rfl)
theorem dX1_addFile_2_53 : decode cX1_addFile_2 53 = .ok (.i2l, 1) := dk_133 (dk_at dksX1_addFile_2_2 5 rfl rfl)
theorem dX1_addFile_2_54 : decode cX1_addFile_2 54 = .ok (.lconst 1, 1) := dk_10 (dk_at dksX1_addFile_2_2 6 rfl rfl)
theorem dX1_addFile_2_55 : decode cX1_addFile_2 55 = .ok (.ldc2_w 125, 3) := dk_20 0 125 (dk_at dksX1_addFile_2_2 7 rfl rfl)
theorem dX1_addFile_2_58 : decode cX1_addFile_2 58 = .ok (.invokestatic 86, 3) := dk_184 0 86 (dk_at dksX1_addFile_2_2 10 rfl rfl)
theorem dX1_addFile_2_61 : decode cX1_addFile_2 61 = .ok (.ifCond .eq 7, 3) := dk_153 0 7 (dk_at dksX1_addFile_2_2 13 rfl rfl)
theorem dX1_addFile_2_64 : decode cX1_addFile_2 64 = .ok (.iconst 1, 1) := dk_4 (dk_at dksX1_addFile_2_2 16 rfl rfl)
theorem dX1_addFile_2_65 : decode cX1_addFile_2 65 = .ok (.goto 4, 3) := dk_167 0 4 (dk_at dksX1_addFile_2_2 17 rfl rfl)
theorem dX1_addFile_2_68 : decode cX1_addFile_2 68 = .ok (.iconst 0, 1) := dk_3 (dk_at dksX1_addFile_2_2 20 rfl rfl)
theorem dX1_addFile_2_69 : decode cX1_addFile_2 69 = .ok (.invokestatic 21, 3) := dk_184 0 21 (dk_at dksX1_addFile_2_2 21 rfl rfl)
theorem dX1_addFile_2_72 : decode cX1_addFile_2 72 = .ok (.aload_n 0, 1) := dk_42 (dk_at dksX1_addFile_2_3 0 rfl rfl)
theorem dX1_addFile_2_73 : decode cX1_addFile_2 73 = .ok (.getfield 70, 3) := dk_180 0 70 (dk_at dksX1_addFile_2_3 1 rfl rfl)
theorem dX1_addFile_2_76 : decode cX1_addFile_2 76 = .ok (.new 127, 3) := dk_187 0 127 (dk_at dksX1_addFile_2_3 4 rfl rfl)
theorem dX1_addFile_2_79 : decode cX1_addFile_2 79 = .ok (.dup, 1) := dk_89 (dk_at dksX1_addFile_2_3 7 rfl rfl)
theorem dX1_addFile_2_80 : decode cX1_addFile_2 80 = .ok (.iload_n 1, 1) := dk_27 (dk_at dksX1_addFile_2_3 8 rfl rfl)
theorem dX1_addFile_2_81 : decode cX1_addFile_2 81 = .ok (.iload_n 2, 1) := dk_28 (dk_at dksX1_addFile_2_3 9 rfl rfl)
theorem dX1_addFile_2_82 : decode cX1_addFile_2 82 = .ok (.iload_n 3, 1) := dk_29 (dk_at dksX1_addFile_2_3 10 rfl rfl)
theorem dX1_addFile_2_83 : decode cX1_addFile_2 83 = .ok (.invokespecial 129, 3) := dk_183 0 129 (dk_at dksX1_addFile_2_3 11 rfl rfl)
theorem dX1_addFile_2_86 : decode cX1_addFile_2 86 = .ok (.invokevirtual 102, 3) := dk_182 0 102 (dk_at dksX1_addFile_2_3 14 rfl rfl)
theorem dX1_addFile_2_89 : decode cX1_addFile_2 89 = .ok (.ireturn, 1) := dk_172 (dk_at dksX1_addFile_2_3 17 rfl rfl)
abbrev cX1_flip : ByteArray := prog_1_method_18_code
def yX1_flip : MethodName := ⟨RX1, "flip", "(I)I"⟩
def dkwX1_flip_1 : List UInt8 := [42, 45, 182, 0, 106, 21, 4, 172]
abbrev dktX1_flip_1 : List UInt8 := dkwX1_flip_1 ++ []
def dkwX1_flip_0 : List UInt8 := [42, 27, 182, 0, 134, 77, 42, 180, 0, 31, 182, 0, 90, 78, 42, 180, 0, 31, 27, 182, 0, 138, 54, 4]
abbrev dktX1_flip_0 : List UInt8 := dkwX1_flip_0 ++ dktX1_flip_1
theorem dksX1_flip_0 : cX1_flip.data.toList.drop 0 = dktX1_flip_0 := by decide +kernel
theorem dksX1_flip_1 : cX1_flip.data.toList.drop 24 = dktX1_flip_1 := dk_seg dksX1_flip_0 24 rfl rfl
theorem dX1_flip_0 : decode cX1_flip 0 = .ok (.aload_n 0, 1) := dk_42 (dk_at dksX1_flip_0 0 rfl rfl)
theorem dX1_flip_1 : decode cX1_flip 1 = .ok (.iload_n 1, 1) := dk_27 (dk_at dksX1_flip_0 1 rfl rfl)
theorem dX1_flip_2 : decode cX1_flip 2 = .ok (.invokevirtual 134, 3) := dk_182 0 134 (dk_at dksX1_flip_0 2 rfl rfl)
theorem dX1_flip_5 : decode cX1_flip 5 = .ok (.astore_n 2, 1) := dk_77 (dk_at dksX1_flip_0 5 rfl rfl)
theorem dX1_flip_6 : decode cX1_flip 6 = .ok (.aload_n 0, 1) := dk_42 (dk_at dksX1_flip_0 6 rfl rfl)
theorem dX1_flip_7 : decode cX1_flip 7 = .ok (.getfield 31, 3) := dk_180 0 31 (dk_at dksX1_flip_0 7 rfl rfl)
theorem dX1_flip_10 : decode cX1_flip 10 = .ok (.invokevirtual 90, 3) := dk_182 0 90 (dk_at dksX1_flip_0 10 rfl rfl)
theorem dX1_flip_13 : decode cX1_flip 13 = .ok (.astore_n 3, 1) := dk_78 (dk_at dksX1_flip_0 13 rfl rfl)
theorem dX1_flip_14 : decode cX1_flip 14 = .ok (.aload_n 0, 1) := dk_42 (dk_at dksX1_flip_0 14 rfl rfl)
theorem dX1_flip_15 : decode cX1_flip 15 = .ok (.getfield 31, 3) := dk_180 0 31 (dk_at dksX1_flip_0 15 rfl rfl)
theorem dX1_flip_18 : decode cX1_flip 18 = .ok (.iload_n 1, 1) := dk_27 (dk_at dksX1_flip_0 18 rfl rfl)
theorem dX1_flip_19 : decode cX1_flip 19 = .ok (.invokevirtual 138, 3) := dk_182 0 138 (dk_at dksX1_flip_0 19 rfl rfl)
theorem dX1_flip_22 : decode cX1_flip 22 = .ok (.istore 4, 2) := dk_54 4 (dk_at dksX1_flip_0 22 rfl rfl)
theorem dX1_flip_24 : decode cX1_flip 24 = .ok (.aload_n 0, 1) := dk_42 (dk_at dksX1_flip_1 0 rfl rfl)
theorem dX1_flip_25 : decode cX1_flip 25 = .ok (.aload_n 3, 1) := dk_45 (dk_at dksX1_flip_1 1 rfl rfl)
theorem dX1_flip_26 : decode cX1_flip 26 = .ok (.invokevirtual 106, 3) := dk_182 0 106 (dk_at dksX1_flip_1 2 rfl rfl)
theorem dX1_flip_29 : decode cX1_flip 29 = .ok (.iload 4, 2) := dk_21 4 (dk_at dksX1_flip_1 5 rfl rfl)
theorem dX1_flip_31 : decode cX1_flip 31 = .ok (.ireturn, 1) := dk_172 (dk_at dksX1_flip_1 7 rfl rfl)
abbrev cX1_fileAt : ByteArray := prog_1_method_23_code
def yX1_fileAt : MethodName := ⟨RX1, "fileAt", "(I)LTermsDesk$Source;"⟩
def dkwX1_fileAt_1 : List UInt8 := [180, 0, 31, 180, 0, 70, 27, 182, 0, 159, 192, 0, 127, 176]
abbrev dktX1_fileAt_1 : List UInt8 := dkwX1_fileAt_1 ++ []
def dkwX1_fileAt_0 : List UInt8 := [27, 133, 9, 42, 180, 0, 31, 180, 0, 70, 182, 0, 74, 4, 100, 133, 184, 0, 86, 184, 0, 116, 42]
abbrev dktX1_fileAt_0 : List UInt8 := dkwX1_fileAt_0 ++ dktX1_fileAt_1
theorem dksX1_fileAt_0 : cX1_fileAt.data.toList.drop 0 = dktX1_fileAt_0 := by decide +kernel
theorem dksX1_fileAt_1 : cX1_fileAt.data.toList.drop 23 = dktX1_fileAt_1 := dk_seg dksX1_fileAt_0 23 rfl rfl
theorem dX1_fileAt_0 : decode cX1_fileAt 0 = .ok (.iload_n 1, 1) := dk_27 (dk_at dksX1_fileAt_0 0 rfl rfl)
theorem dX1_fileAt_1 : decode cX1_fileAt 1 = .ok (.i2l, 1) := dk_133 (dk_at dksX1_fileAt_0 1 rfl rfl)
theorem dX1_fileAt_2 : decode cX1_fileAt 2 = .ok (.lconst 0, 1) := dk_9 (dk_at dksX1_fileAt_0 2 rfl rfl)
theorem dX1_fileAt_3 : decode cX1_fileAt 3 = .ok (.aload_n 0, 1) := dk_42 (dk_at dksX1_fileAt_0 3 rfl rfl)
theorem dX1_fileAt_4 : decode cX1_fileAt 4 = .ok (.getfield 31, 3) := dk_180 0 31 (dk_at dksX1_fileAt_0 4 rfl rfl)
theorem dX1_fileAt_7 : decode cX1_fileAt 7 = .ok (.getfield 70, 3) := dk_180 0 70 (dk_at dksX1_fileAt_0 7 rfl rfl)
theorem dX1_fileAt_10 : decode cX1_fileAt 10 = .ok (.invokevirtual 74, 3) := dk_182 0 74 (dk_at dksX1_fileAt_0 10 rfl rfl)
theorem dX1_fileAt_13 : decode cX1_fileAt 13 = .ok (.iconst 1, 1) := dk_4 (dk_at dksX1_fileAt_0 13 rfl rfl)
theorem dX1_fileAt_14 : decode cX1_fileAt 14 = .ok (.isub, 1) := dk_100 (dk_at dksX1_fileAt_0 14 rfl rfl)
theorem dX1_fileAt_15 : decode cX1_fileAt 15 = .ok (.i2l, 1) := dk_133 (dk_at dksX1_fileAt_0 15 rfl rfl)
theorem dX1_fileAt_16 : decode cX1_fileAt 16 = .ok (.invokestatic 86, 3) := dk_184 0 86 (dk_at dksX1_fileAt_0 16 rfl rfl)
theorem dX1_fileAt_19 : decode cX1_fileAt 19 = .ok (.invokestatic 116, 3) := dk_184 0 116 (dk_at dksX1_fileAt_0 19 rfl rfl)
theorem dX1_fileAt_22 : decode cX1_fileAt 22 = .ok (.aload_n 0, 1) := dk_42 (dk_at dksX1_fileAt_0 22 rfl rfl)
theorem dX1_fileAt_23 : decode cX1_fileAt 23 = .ok (.getfield 31, 3) := dk_180 0 31 (dk_at dksX1_fileAt_1 0 rfl rfl)
theorem dX1_fileAt_26 : decode cX1_fileAt 26 = .ok (.getfield 70, 3) := dk_180 0 70 (dk_at dksX1_fileAt_1 3 rfl rfl)
theorem dX1_fileAt_29 : decode cX1_fileAt 29 = .ok (.iload_n 1, 1) := dk_27 (dk_at dksX1_fileAt_1 6 rfl rfl)
theorem dX1_fileAt_30 : decode cX1_fileAt 30 = .ok (.invokevirtual 159, 3) := dk_182 0 159 (dk_at dksX1_fileAt_1 7 rfl rfl)
theorem dX1_fileAt_33 : decode cX1_fileAt 33 = .ok (.checkcast 127, 3) := dk_192 0 127 (dk_at dksX1_fileAt_1 10 rfl rfl)
theorem dX1_fileAt_36 : decode cX1_fileAt 36 = .ok (.areturn, 1) := dk_176 (dk_at dksX1_fileAt_1 13 rfl rfl)
abbrev cX1_addWork : ByteArray := prog_1_method_19_code
def yX1_addWork : MethodName := ⟨RX1, "addWork", "()I"⟩
def dkwX1_addWork_1 : List UInt8 := [182, 0, 102, 61, 42, 43, 182, 0, 106, 28, 172]
abbrev dktX1_addWork_1 : List UInt8 := dkwX1_addWork_1 ++ []
def dkwX1_addWork_0 : List UInt8 := [42, 180, 0, 31, 182, 0, 90, 76, 42, 180, 0, 31, 180, 0, 142, 187, 0, 145, 89, 183, 0, 147]
abbrev dktX1_addWork_0 : List UInt8 := dkwX1_addWork_0 ++ dktX1_addWork_1
theorem dksX1_addWork_0 : cX1_addWork.data.toList.drop 0 = dktX1_addWork_0 := by decide +kernel
theorem dksX1_addWork_1 : cX1_addWork.data.toList.drop 22 = dktX1_addWork_1 := dk_seg dksX1_addWork_0 22 rfl rfl
theorem dX1_addWork_0 : decode cX1_addWork 0 = .ok (.aload_n 0, 1) := dk_42 (dk_at dksX1_addWork_0 0 rfl rfl)
theorem dX1_addWork_1 : decode cX1_addWork 1 = .ok (.getfield 31, 3) := dk_180 0 31 (dk_at dksX1_addWork_0 1 rfl rfl)
theorem dX1_addWork_4 : decode cX1_addWork 4 = .ok (.invokevirtual 90, 3) := dk_182 0 90 (dk_at dksX1_addWork_0 4 rfl rfl)
theorem dX1_addWork_7 : decode cX1_addWork 7 = .ok (.astore_n 1, 1) := dk_76 (dk_at dksX1_addWork_0 7 rfl rfl)
theorem dX1_addWork_8 : decode cX1_addWork 8 = .ok (.aload_n 0, 1) := dk_42 (dk_at dksX1_addWork_0 8 rfl rfl)
theorem dX1_addWork_9 : decode cX1_addWork 9 = .ok (.getfield 31, 3) := dk_180 0 31 (dk_at dksX1_addWork_0 9 rfl rfl)
theorem dX1_addWork_12 : decode cX1_addWork 12 = .ok (.getfield 142, 3) := dk_180 0 142 (dk_at dksX1_addWork_0 12 rfl rfl)
theorem dX1_addWork_15 : decode cX1_addWork 15 = .ok (.new 145, 3) := dk_187 0 145 (dk_at dksX1_addWork_0 15 rfl rfl)
theorem dX1_addWork_18 : decode cX1_addWork 18 = .ok (.dup, 1) := dk_89 (dk_at dksX1_addWork_0 18 rfl rfl)
theorem dX1_addWork_19 : decode cX1_addWork 19 = .ok (.invokespecial 147, 3) := dk_183 0 147 (dk_at dksX1_addWork_0 19 rfl rfl)
theorem dX1_addWork_22 : decode cX1_addWork 22 = .ok (.invokevirtual 102, 3) := dk_182 0 102 (dk_at dksX1_addWork_1 0 rfl rfl)
theorem dX1_addWork_25 : decode cX1_addWork 25 = .ok (.istore_n 2, 1) := dk_61 (dk_at dksX1_addWork_1 3 rfl rfl)
theorem dX1_addWork_26 : decode cX1_addWork 26 = .ok (.aload_n 0, 1) := dk_42 (dk_at dksX1_addWork_1 4 rfl rfl)
theorem dX1_addWork_27 : decode cX1_addWork 27 = .ok (.aload_n 1, 1) := dk_43 (dk_at dksX1_addWork_1 5 rfl rfl)
theorem dX1_addWork_28 : decode cX1_addWork 28 = .ok (.invokevirtual 106, 3) := dk_182 0 106 (dk_at dksX1_addWork_1 6 rfl rfl)
theorem dX1_addWork_31 : decode cX1_addWork 31 = .ok (.iload_n 2, 1) := dk_28 (dk_at dksX1_addWork_1 9 rfl rfl)
theorem dX1_addWork_32 : decode cX1_addWork 32 = .ok (.ireturn, 1) := dk_172 (dk_at dksX1_addWork_1 10 rfl rfl)
abbrev cX1_join : ByteArray := prog_1_method_20_code
def yX1_join : MethodName := ⟨RX1, "join", "(IIZ)Z"⟩
def dkwX1_join_1 : List UInt8 := [182, 0, 106, 42, 180, 0, 31, 27, 28, 29, 182, 0, 152, 172]
abbrev dktX1_join_1 : List UInt8 := dkwX1_join_1 ++ []
def dkwX1_join_0 : List UInt8 := [42, 27, 182, 0, 148, 58, 4, 42, 28, 182, 0, 134, 58, 5, 42, 42, 180, 0, 31, 182, 0, 90]
abbrev dktX1_join_0 : List UInt8 := dkwX1_join_0 ++ dktX1_join_1
theorem dksX1_join_0 : cX1_join.data.toList.drop 0 = dktX1_join_0 := by decide +kernel
theorem dksX1_join_1 : cX1_join.data.toList.drop 22 = dktX1_join_1 := dk_seg dksX1_join_0 22 rfl rfl
theorem dX1_join_0 : decode cX1_join 0 = .ok (.aload_n 0, 1) := dk_42 (dk_at dksX1_join_0 0 rfl rfl)
theorem dX1_join_1 : decode cX1_join 1 = .ok (.iload_n 1, 1) := dk_27 (dk_at dksX1_join_0 1 rfl rfl)
theorem dX1_join_2 : decode cX1_join 2 = .ok (.invokevirtual 148, 3) := dk_182 0 148 (dk_at dksX1_join_0 2 rfl rfl)
theorem dX1_join_5 : decode cX1_join 5 = .ok (.astore 4, 2) := dk_58 4 (dk_at dksX1_join_0 5 rfl rfl)
theorem dX1_join_7 : decode cX1_join 7 = .ok (.aload_n 0, 1) := dk_42 (dk_at dksX1_join_0 7 rfl rfl)
theorem dX1_join_8 : decode cX1_join 8 = .ok (.iload_n 2, 1) := dk_28 (dk_at dksX1_join_0 8 rfl rfl)
theorem dX1_join_9 : decode cX1_join 9 = .ok (.invokevirtual 134, 3) := dk_182 0 134 (dk_at dksX1_join_0 9 rfl rfl)
theorem dX1_join_12 : decode cX1_join 12 = .ok (.astore 5, 2) := dk_58 5 (dk_at dksX1_join_0 12 rfl rfl)
theorem dX1_join_14 : decode cX1_join 14 = .ok (.aload_n 0, 1) := dk_42 (dk_at dksX1_join_0 14 rfl rfl)
theorem dX1_join_15 : decode cX1_join 15 = .ok (.aload_n 0, 1) := dk_42 (dk_at dksX1_join_0 15 rfl rfl)
theorem dX1_join_16 : decode cX1_join 16 = .ok (.getfield 31, 3) := dk_180 0 31 (dk_at dksX1_join_0 16 rfl rfl)
theorem dX1_join_19 : decode cX1_join 19 = .ok (.invokevirtual 90, 3) := dk_182 0 90 (dk_at dksX1_join_0 19 rfl rfl)
theorem dX1_join_22 : decode cX1_join 22 = .ok (.invokevirtual 106, 3) := dk_182 0 106 (dk_at dksX1_join_1 0 rfl rfl)
theorem dX1_join_25 : decode cX1_join 25 = .ok (.aload_n 0, 1) := dk_42 (dk_at dksX1_join_1 3 rfl rfl)
theorem dX1_join_26 : decode cX1_join 26 = .ok (.getfield 31, 3) := dk_180 0 31 (dk_at dksX1_join_1 4 rfl rfl)
theorem dX1_join_29 : decode cX1_join 29 = .ok (.iload_n 1, 1) := dk_27 (dk_at dksX1_join_1 7 rfl rfl)
theorem dX1_join_30 : decode cX1_join 30 = .ok (.iload_n 2, 1) := dk_28 (dk_at dksX1_join_1 8 rfl rfl)
theorem dX1_join_31 : decode cX1_join 31 = .ok (.iload_n 3, 1) := dk_29 (dk_at dksX1_join_1 9 rfl rfl)
theorem dX1_join_32 : decode cX1_join 32 = .ok (.invokevirtual 152, 3) := dk_182 0 152 (dk_at dksX1_join_1 10 rfl rfl)
theorem dX1_join_35 : decode cX1_join 35 = .ok (.ireturn, 1) := dk_172 (dk_at dksX1_join_1 13 rfl rfl)
abbrev cX1_workAt : ByteArray := prog_1_method_24_code
def yX1_workAt : MethodName := ⟨RX1, "workAt", "(I)LTermsDesk$Work;"⟩
def dkwX1_workAt_1 : List UInt8 := [180, 0, 31, 180, 0, 142, 27, 182, 0, 159, 192, 0, 145, 176]
abbrev dktX1_workAt_1 : List UInt8 := dkwX1_workAt_1 ++ []
def dkwX1_workAt_0 : List UInt8 := [27, 133, 9, 42, 180, 0, 31, 180, 0, 142, 182, 0, 74, 4, 100, 133, 184, 0, 86, 184, 0, 116, 42]
abbrev dktX1_workAt_0 : List UInt8 := dkwX1_workAt_0 ++ dktX1_workAt_1
theorem dksX1_workAt_0 : cX1_workAt.data.toList.drop 0 = dktX1_workAt_0 := by decide +kernel
theorem dksX1_workAt_1 : cX1_workAt.data.toList.drop 23 = dktX1_workAt_1 := dk_seg dksX1_workAt_0 23 rfl rfl
theorem dX1_workAt_0 : decode cX1_workAt 0 = .ok (.iload_n 1, 1) := dk_27 (dk_at dksX1_workAt_0 0 rfl rfl)
theorem dX1_workAt_1 : decode cX1_workAt 1 = .ok (.i2l, 1) := dk_133 (dk_at dksX1_workAt_0 1 rfl rfl)
theorem dX1_workAt_2 : decode cX1_workAt 2 = .ok (.lconst 0, 1) := dk_9 (dk_at dksX1_workAt_0 2 rfl rfl)
theorem dX1_workAt_3 : decode cX1_workAt 3 = .ok (.aload_n 0, 1) := dk_42 (dk_at dksX1_workAt_0 3 rfl rfl)
theorem dX1_workAt_4 : decode cX1_workAt 4 = .ok (.getfield 31, 3) := dk_180 0 31 (dk_at dksX1_workAt_0 4 rfl rfl)
theorem dX1_workAt_7 : decode cX1_workAt 7 = .ok (.getfield 142, 3) := dk_180 0 142 (dk_at dksX1_workAt_0 7 rfl rfl)
theorem dX1_workAt_10 : decode cX1_workAt 10 = .ok (.invokevirtual 74, 3) := dk_182 0 74 (dk_at dksX1_workAt_0 10 rfl rfl)
theorem dX1_workAt_13 : decode cX1_workAt 13 = .ok (.iconst 1, 1) := dk_4 (dk_at dksX1_workAt_0 13 rfl rfl)
theorem dX1_workAt_14 : decode cX1_workAt 14 = .ok (.isub, 1) := dk_100 (dk_at dksX1_workAt_0 14 rfl rfl)
theorem dX1_workAt_15 : decode cX1_workAt 15 = .ok (.i2l, 1) := dk_133 (dk_at dksX1_workAt_0 15 rfl rfl)
theorem dX1_workAt_16 : decode cX1_workAt 16 = .ok (.invokestatic 86, 3) := dk_184 0 86 (dk_at dksX1_workAt_0 16 rfl rfl)
theorem dX1_workAt_19 : decode cX1_workAt 19 = .ok (.invokestatic 116, 3) := dk_184 0 116 (dk_at dksX1_workAt_0 19 rfl rfl)
theorem dX1_workAt_22 : decode cX1_workAt 22 = .ok (.aload_n 0, 1) := dk_42 (dk_at dksX1_workAt_0 22 rfl rfl)
theorem dX1_workAt_23 : decode cX1_workAt 23 = .ok (.getfield 31, 3) := dk_180 0 31 (dk_at dksX1_workAt_1 0 rfl rfl)
theorem dX1_workAt_26 : decode cX1_workAt 26 = .ok (.getfield 142, 3) := dk_180 0 142 (dk_at dksX1_workAt_1 3 rfl rfl)
theorem dX1_workAt_29 : decode cX1_workAt 29 = .ok (.iload_n 1, 1) := dk_27 (dk_at dksX1_workAt_1 6 rfl rfl)
theorem dX1_workAt_30 : decode cX1_workAt 30 = .ok (.invokevirtual 159, 3) := dk_182 0 159 (dk_at dksX1_workAt_1 7 rfl rfl)
theorem dX1_workAt_33 : decode cX1_workAt 33 = .ok (.checkcast 145, 3) := dk_192 0 145 (dk_at dksX1_workAt_1 10 rfl rfl)
theorem dX1_workAt_36 : decode cX1_workAt 36 = .ok (.areturn, 1) := dk_176 (dk_at dksX1_workAt_1 13 rfl rfl)
abbrev cX1_link : ByteArray := prog_1_method_21_code
def yX1_link : MethodName := ⟨RX1, "link", "(IIZ)Z"⟩
def dkwX1_link_1 : List UInt8 := [180, 0, 31, 27, 28, 29, 182, 0, 156, 54, 7, 42, 25, 6, 182, 0, 106, 21, 7, 172]
abbrev dktX1_link_1 : List UInt8 := dkwX1_link_1 ++ []
def dkwX1_link_0 : List UInt8 := [42, 27, 182, 0, 148, 58, 4, 42, 28, 182, 0, 148, 58, 5, 42, 180, 0, 31, 182, 0, 90, 58, 6, 42]
abbrev dktX1_link_0 : List UInt8 := dkwX1_link_0 ++ dktX1_link_1
theorem dksX1_link_0 : cX1_link.data.toList.drop 0 = dktX1_link_0 := by decide +kernel
theorem dksX1_link_1 : cX1_link.data.toList.drop 24 = dktX1_link_1 := dk_seg dksX1_link_0 24 rfl rfl
theorem dX1_link_0 : decode cX1_link 0 = .ok (.aload_n 0, 1) := dk_42 (dk_at dksX1_link_0 0 rfl rfl)
theorem dX1_link_1 : decode cX1_link 1 = .ok (.iload_n 1, 1) := dk_27 (dk_at dksX1_link_0 1 rfl rfl)
theorem dX1_link_2 : decode cX1_link 2 = .ok (.invokevirtual 148, 3) := dk_182 0 148 (dk_at dksX1_link_0 2 rfl rfl)
theorem dX1_link_5 : decode cX1_link 5 = .ok (.astore 4, 2) := dk_58 4 (dk_at dksX1_link_0 5 rfl rfl)
theorem dX1_link_7 : decode cX1_link 7 = .ok (.aload_n 0, 1) := dk_42 (dk_at dksX1_link_0 7 rfl rfl)
theorem dX1_link_8 : decode cX1_link 8 = .ok (.iload_n 2, 1) := dk_28 (dk_at dksX1_link_0 8 rfl rfl)
theorem dX1_link_9 : decode cX1_link 9 = .ok (.invokevirtual 148, 3) := dk_182 0 148 (dk_at dksX1_link_0 9 rfl rfl)
theorem dX1_link_12 : decode cX1_link 12 = .ok (.astore 5, 2) := dk_58 5 (dk_at dksX1_link_0 12 rfl rfl)
theorem dX1_link_14 : decode cX1_link 14 = .ok (.aload_n 0, 1) := dk_42 (dk_at dksX1_link_0 14 rfl rfl)
theorem dX1_link_15 : decode cX1_link 15 = .ok (.getfield 31, 3) := dk_180 0 31 (dk_at dksX1_link_0 15 rfl rfl)
theorem dX1_link_18 : decode cX1_link 18 = .ok (.invokevirtual 90, 3) := dk_182 0 90 (dk_at dksX1_link_0 18 rfl rfl)
theorem dX1_link_21 : decode cX1_link 21 = .ok (.astore 6, 2) := dk_58 6 (dk_at dksX1_link_0 21 rfl rfl)
theorem dX1_link_23 : decode cX1_link 23 = .ok (.aload_n 0, 1) := dk_42 (dk_at dksX1_link_0 23 rfl rfl)
theorem dX1_link_24 : decode cX1_link 24 = .ok (.getfield 31, 3) := dk_180 0 31 (dk_at dksX1_link_1 0 rfl rfl)
theorem dX1_link_27 : decode cX1_link 27 = .ok (.iload_n 1, 1) := dk_27 (dk_at dksX1_link_1 3 rfl rfl)
theorem dX1_link_28 : decode cX1_link 28 = .ok (.iload_n 2, 1) := dk_28 (dk_at dksX1_link_1 4 rfl rfl)
theorem dX1_link_29 : decode cX1_link 29 = .ok (.iload_n 3, 1) := dk_29 (dk_at dksX1_link_1 5 rfl rfl)
theorem dX1_link_30 : decode cX1_link 30 = .ok (.invokevirtual 156, 3) := dk_182 0 156 (dk_at dksX1_link_1 6 rfl rfl)
theorem dX1_link_33 : decode cX1_link 33 = .ok (.istore 7, 2) := dk_54 7 (dk_at dksX1_link_1 9 rfl rfl)
theorem dX1_link_35 : decode cX1_link 35 = .ok (.aload_n 0, 1) := dk_42 (dk_at dksX1_link_1 11 rfl rfl)
theorem dX1_link_36 : decode cX1_link 36 = .ok (.aload 6, 2) := dk_25 6 (dk_at dksX1_link_1 12 rfl rfl)
theorem dX1_link_38 : decode cX1_link 38 = .ok (.invokevirtual 106, 3) := dk_182 0 106 (dk_at dksX1_link_1 14 rfl rfl)
theorem dX1_link_41 : decode cX1_link 41 = .ok (.iload 7, 2) := dk_21 7 (dk_at dksX1_link_1 17 rfl rfl)
theorem dX1_link_43 : decode cX1_link 43 = .ok (.ireturn, 1) := dk_172 (dk_at dksX1_link_1 19 rfl rfl)
abbrev cX1_clashes : ByteArray := prog_1_method_26_code
def yX1_clashes : MethodName := ⟨RX1, "clashes", "(II)I"⟩
def dkwX1_clashes_0 : List UInt8 := [42, 27, 28, 182, 0, 171, 182, 0, 174, 172]
abbrev dktX1_clashes_0 : List UInt8 := dkwX1_clashes_0 ++ []
theorem dksX1_clashes_0 : cX1_clashes.data.toList.drop 0 = dktX1_clashes_0 := by decide +kernel
theorem dX1_clashes_0 : decode cX1_clashes 0 = .ok (.aload_n 0, 1) := dk_42 (dk_at dksX1_clashes_0 0 rfl rfl)
theorem dX1_clashes_1 : decode cX1_clashes 1 = .ok (.iload_n 1, 1) := dk_27 (dk_at dksX1_clashes_0 1 rfl rfl)
theorem dX1_clashes_2 : decode cX1_clashes 2 = .ok (.iload_n 2, 1) := dk_28 (dk_at dksX1_clashes_0 2 rfl rfl)
theorem dX1_clashes_3 : decode cX1_clashes 3 = .ok (.invokevirtual 171, 3) := dk_182 0 171 (dk_at dksX1_clashes_0 3 rfl rfl)
theorem dX1_clashes_6 : decode cX1_clashes 6 = .ok (.invokevirtual 174, 3) := dk_182 0 174 (dk_at dksX1_clashes_0 6 rfl rfl)
theorem dX1_clashes_9 : decode cX1_clashes 9 = .ok (.ireturn, 1) := dk_172 (dk_at dksX1_clashes_0 9 rfl rfl)
abbrev cX1_deedOf : ByteArray := prog_1_method_25_code
def yX1_deedOf : MethodName := ⟨RX1, "deedOf", "(II)LTermsDesk$Deed;"⟩
def dkwX1_deedOf_0 : List UInt8 := [42, 27, 182, 0, 148, 78, 28, 184, 0, 163, 42, 180, 0, 31, 27, 28, 182, 0, 167, 176]
abbrev dktX1_deedOf_0 : List UInt8 := dkwX1_deedOf_0 ++ []
theorem dksX1_deedOf_0 : cX1_deedOf.data.toList.drop 0 = dktX1_deedOf_0 := by decide +kernel
theorem dX1_deedOf_0 : decode cX1_deedOf 0 = .ok (.aload_n 0, 1) := dk_42 (dk_at dksX1_deedOf_0 0 rfl rfl)
theorem dX1_deedOf_1 : decode cX1_deedOf 1 = .ok (.iload_n 1, 1) := dk_27 (dk_at dksX1_deedOf_0 1 rfl rfl)
theorem dX1_deedOf_2 : decode cX1_deedOf 2 = .ok (.invokevirtual 148, 3) := dk_182 0 148 (dk_at dksX1_deedOf_0 2 rfl rfl)
theorem dX1_deedOf_5 : decode cX1_deedOf 5 = .ok (.astore_n 3, 1) := dk_78 (dk_at dksX1_deedOf_0 5 rfl rfl)
theorem dX1_deedOf_6 : decode cX1_deedOf 6 = .ok (.iload_n 2, 1) := dk_28 (dk_at dksX1_deedOf_0 6 rfl rfl)
theorem dX1_deedOf_7 : decode cX1_deedOf 7 = .ok (.invokestatic 163, 3) := dk_184 0 163 (dk_at dksX1_deedOf_0 7 rfl rfl)
theorem dX1_deedOf_10 : decode cX1_deedOf 10 = .ok (.aload_n 0, 1) := dk_42 (dk_at dksX1_deedOf_0 10 rfl rfl)
theorem dX1_deedOf_11 : decode cX1_deedOf 11 = .ok (.getfield 31, 3) := dk_180 0 31 (dk_at dksX1_deedOf_0 11 rfl rfl)
theorem dX1_deedOf_14 : decode cX1_deedOf 14 = .ok (.iload_n 1, 1) := dk_27 (dk_at dksX1_deedOf_0 14 rfl rfl)
theorem dX1_deedOf_15 : decode cX1_deedOf 15 = .ok (.iload_n 2, 1) := dk_28 (dk_at dksX1_deedOf_0 15 rfl rfl)
theorem dX1_deedOf_16 : decode cX1_deedOf 16 = .ok (.invokevirtual 167, 3) := dk_182 0 167 (dk_at dksX1_deedOf_0 16 rfl rfl)
theorem dX1_deedOf_19 : decode cX1_deedOf 19 = .ok (.areturn, 1) := dk_176 (dk_at dksX1_deedOf_0 19 rfl rfl)
abbrev cX1_checkAct : ByteArray := prog_1_method_9_code
def yX1_checkAct : MethodName := ⟨RX1, "checkAct", "(I)V"⟩
def dkwX1_checkAct_0 : List UInt8 := [26, 153, 0, 13, 26, 4, 159, 0, 8, 26, 7, 160, 0, 7, 4, 167, 0, 4, 3, 184, 0, 21, 177]
abbrev dktX1_checkAct_0 : List UInt8 := dkwX1_checkAct_0 ++ []
theorem dksX1_checkAct_0 : cX1_checkAct.data.toList.drop 0 = dktX1_checkAct_0 := by decide +kernel
theorem dX1_checkAct_0 : decode cX1_checkAct 0 = .ok (.iload_n 0, 1) := dk_26 (dk_at dksX1_checkAct_0 0 rfl rfl)
theorem dX1_checkAct_1 : decode cX1_checkAct 1 = .ok (.ifCond .eq 13, 3) := dk_153 0 13 (dk_at dksX1_checkAct_0 1 rfl rfl)
theorem dX1_checkAct_4 : decode cX1_checkAct 4 = .ok (.iload_n 0, 1) := dk_26 (dk_at dksX1_checkAct_0 4 rfl rfl)
theorem dX1_checkAct_5 : decode cX1_checkAct 5 = .ok (.iconst 1, 1) := dk_4 (dk_at dksX1_checkAct_0 5 rfl rfl)
theorem dX1_checkAct_6 : decode cX1_checkAct 6 = .ok (.if_icmp .eq 8, 3) := dk_159 0 8 (dk_at dksX1_checkAct_0 6 rfl rfl)
theorem dX1_checkAct_9 : decode cX1_checkAct 9 = .ok (.iload_n 0, 1) := dk_26 (dk_at dksX1_checkAct_0 9 rfl rfl)
theorem dX1_checkAct_10 : decode cX1_checkAct 10 = .ok (.iconst 4, 1) := dk_7 (dk_at dksX1_checkAct_0 10 rfl rfl)
theorem dX1_checkAct_11 : decode cX1_checkAct 11 = .ok (.if_icmp .ne 7, 3) := dk_160 0 7 (dk_at dksX1_checkAct_0 11 rfl rfl)
theorem dX1_checkAct_14 : decode cX1_checkAct 14 = .ok (.iconst 1, 1) := dk_4 (dk_at dksX1_checkAct_0 14 rfl rfl)
theorem dX1_checkAct_15 : decode cX1_checkAct 15 = .ok (.goto 4, 3) := dk_167 0 4 (dk_at dksX1_checkAct_0 15 rfl rfl)
theorem dX1_checkAct_18 : decode cX1_checkAct 18 = .ok (.iconst 0, 1) := dk_3 (dk_at dksX1_checkAct_0 18 rfl rfl)
theorem dX1_checkAct_19 : decode cX1_checkAct 19 = .ok (.invokestatic 21, 3) := dk_184 0 21 (dk_at dksX1_checkAct_0 19 rfl rfl)
theorem dX1_checkAct_22 : decode cX1_checkAct 22 = .ok (.return_, 1) := dk_177 (dk_at dksX1_checkAct_0 22 rfl rfl)
abbrev cX1_clash : ByteArray := prog_1_method_27_code
def yX1_clash : MethodName := ⟨RX1, "clash", "(IIII)I"⟩
def dkwX1_clash_1 : List UInt8 := [182, 0, 181, 21, 4, 182, 0, 185, 172]
abbrev dktX1_clash_1 : List UInt8 := dkwX1_clash_1 ++ []
def dkwX1_clash_0 : List UInt8 := [42, 27, 28, 182, 0, 171, 58, 5, 21, 4, 133, 9, 20, 0, 179, 184, 0, 86, 184, 0, 21, 25, 5, 29]
abbrev dktX1_clash_0 : List UInt8 := dkwX1_clash_0 ++ dktX1_clash_1
theorem dksX1_clash_0 : cX1_clash.data.toList.drop 0 = dktX1_clash_0 := by decide +kernel
theorem dksX1_clash_1 : cX1_clash.data.toList.drop 24 = dktX1_clash_1 := dk_seg dksX1_clash_0 24 rfl rfl
theorem dX1_clash_0 : decode cX1_clash 0 = .ok (.aload_n 0, 1) := dk_42 (dk_at dksX1_clash_0 0 rfl rfl)
theorem dX1_clash_1 : decode cX1_clash 1 = .ok (.iload_n 1, 1) := dk_27 (dk_at dksX1_clash_0 1 rfl rfl)
theorem dX1_clash_2 : decode cX1_clash 2 = .ok (.iload_n 2, 1) := dk_28 (dk_at dksX1_clash_0 2 rfl rfl)
theorem dX1_clash_3 : decode cX1_clash 3 = .ok (.invokevirtual 171, 3) := dk_182 0 171 (dk_at dksX1_clash_0 3 rfl rfl)
theorem dX1_clash_6 : decode cX1_clash 6 = .ok (.astore 5, 2) := dk_58 5 (dk_at dksX1_clash_0 6 rfl rfl)
theorem dX1_clash_8 : decode cX1_clash 8 = .ok (.iload 4, 2) := dk_21 4 (dk_at dksX1_clash_0 8 rfl rfl)
theorem dX1_clash_10 : decode cX1_clash 10 = .ok (.i2l, 1) := dk_133 (dk_at dksX1_clash_0 10 rfl rfl)
theorem dX1_clash_11 : decode cX1_clash 11 = .ok (.lconst 0, 1) := dk_9 (dk_at dksX1_clash_0 11 rfl rfl)
theorem dX1_clash_12 : decode cX1_clash 12 = .ok (.ldc2_w 179, 3) := dk_20 0 179 (dk_at dksX1_clash_0 12 rfl rfl)
theorem dX1_clash_15 : decode cX1_clash 15 = .ok (.invokestatic 86, 3) := dk_184 0 86 (dk_at dksX1_clash_0 15 rfl rfl)
theorem dX1_clash_18 : decode cX1_clash 18 = .ok (.invokestatic 21, 3) := dk_184 0 21 (dk_at dksX1_clash_0 18 rfl rfl)
theorem dX1_clash_21 : decode cX1_clash 21 = .ok (.aload 5, 2) := dk_25 5 (dk_at dksX1_clash_0 21 rfl rfl)
theorem dX1_clash_23 : decode cX1_clash 23 = .ok (.iload_n 3, 1) := dk_29 (dk_at dksX1_clash_0 23 rfl rfl)
theorem dX1_clash_24 : decode cX1_clash 24 = .ok (.invokevirtual 181, 3) := dk_182 0 181 (dk_at dksX1_clash_1 0 rfl rfl)
theorem dX1_clash_27 : decode cX1_clash 27 = .ok (.iload 4, 2) := dk_21 4 (dk_at dksX1_clash_1 3 rfl rfl)
theorem dX1_clash_29 : decode cX1_clash 29 = .ok (.invokevirtual 185, 3) := dk_182 0 185 (dk_at dksX1_clash_1 5 rfl rfl)
theorem dX1_clash_32 : decode cX1_clash 32 = .ok (.ireturn, 1) := dk_172 (dk_at dksX1_clash_1 8 rfl rfl)
abbrev cX1_checkElement : ByteArray := prog_1_method_5_code
def yX1_checkElement : MethodName := ⟨RX1, "checkElement", "(Z)V"⟩
def dkwX1_checkElement_0 : List UInt8 := [26, 154, 0, 11, 187, 0, 13, 89, 183, 0, 15, 191, 177]
abbrev dktX1_checkElement_0 : List UInt8 := dkwX1_checkElement_0 ++ []
theorem dksX1_checkElement_0 : cX1_checkElement.data.toList.drop 0 = dktX1_checkElement_0 := by decide +kernel
theorem dX1_checkElement_0 : decode cX1_checkElement 0 = .ok (.iload_n 0, 1) := dk_26 (dk_at dksX1_checkElement_0 0 rfl rfl)
theorem dX1_checkElement_1 : decode cX1_checkElement 1 = .ok (.ifCond .ne 11, 3) := dk_154 0 11 (dk_at dksX1_checkElement_0 1 rfl rfl)
theorem dX1_checkElement_4 : decode cX1_checkElement 4 = .ok (.new 13, 3) := dk_187 0 13 (dk_at dksX1_checkElement_0 4 rfl rfl)
theorem dX1_checkElement_7 : decode cX1_checkElement 7 = .ok (.dup, 1) := dk_89 (dk_at dksX1_checkElement_0 7 rfl rfl)
theorem dX1_checkElement_8 : decode cX1_checkElement 8 = .ok (.invokespecial 15, 3) := dk_183 0 15 (dk_at dksX1_checkElement_0 8 rfl rfl)
theorem dX1_checkElement_11 : decode cX1_checkElement 11 = .ok (.athrow, 1) := dk_191 (dk_at dksX1_checkElement_0 11 rfl rfl)
theorem dX1_checkElement_12 : decode cX1_checkElement 12 = .ok (.return_, 1) := dk_177 (dk_at dksX1_checkElement_0 12 rfl rfl)
abbrev cX1_due : ByteArray := prog_1_method_28_code
def yX1_due : MethodName := ⟨RX1, "due", "(III)I"⟩
def dkwX1_due_3 : List UInt8 := [182, 0, 201, 172]
abbrev dktX1_due_3 : List UInt8 := dkwX1_due_3 ++ []
def dkwX1_due_2 : List UInt8 := [4, 167, 0, 4, 3, 184, 0, 195, 29, 2, 160, 0, 11, 25, 6, 182, 0, 198, 167, 0, 9, 25, 6, 29]
abbrev dktX1_due_2 : List UInt8 := dkwX1_due_2 ++ dktX1_due_3
def dkwX1_due_1 : List UInt8 := [27, 28, 182, 0, 171, 58, 6, 29, 2, 159, 0, 15, 25, 6, 182, 0, 190, 29, 184, 0, 192, 153, 0, 7]
abbrev dktX1_due_1 : List UInt8 := dkwX1_due_1 ++ dktX1_due_2
def dkwX1_due_0 : List UInt8 := [42, 27, 182, 0, 148, 58, 4, 29, 2, 160, 0, 7, 1, 167, 0, 8, 42, 29, 182, 0, 134, 58, 5, 42]
abbrev dktX1_due_0 : List UInt8 := dkwX1_due_0 ++ dktX1_due_1
theorem dksX1_due_0 : cX1_due.data.toList.drop 0 = dktX1_due_0 := by decide +kernel
theorem dksX1_due_1 : cX1_due.data.toList.drop 24 = dktX1_due_1 := dk_seg dksX1_due_0 24 rfl rfl
theorem dksX1_due_2 : cX1_due.data.toList.drop 48 = dktX1_due_2 := dk_seg dksX1_due_1 24 rfl rfl
theorem dksX1_due_3 : cX1_due.data.toList.drop 72 = dktX1_due_3 := dk_seg dksX1_due_2 24 rfl rfl
theorem dX1_due_0 : decode cX1_due 0 = .ok (.aload_n 0, 1) := dk_42 (dk_at dksX1_due_0 0 rfl rfl)
theorem dX1_due_1 : decode cX1_due 1 = .ok (.iload_n 1, 1) := dk_27 (dk_at dksX1_due_0 1 rfl rfl)
theorem dX1_due_2 : decode cX1_due 2 = .ok (.invokevirtual 148, 3) := dk_182 0 148 (dk_at dksX1_due_0 2 rfl rfl)
theorem dX1_due_5 : decode cX1_due 5 = .ok (.astore 4, 2) := dk_58 4 (dk_at dksX1_due_0 5 rfl rfl)
theorem dX1_due_7 : decode cX1_due 7 = .ok (.iload_n 3, 1) := dk_29 (dk_at dksX1_due_0 7 rfl rfl)
theorem dX1_due_8 : decode cX1_due 8 = .ok (.iconst (-1), 1) := dk_2 (dk_at dksX1_due_0 8 rfl rfl)
theorem dX1_due_9 : decode cX1_due 9 = .ok (.if_icmp .ne 7, 3) := dk_160 0 7 (dk_at dksX1_due_0 9 rfl rfl)
theorem dX1_due_12 : decode cX1_due 12 = .ok (.aconst_null, 1) := dk_1 (dk_at dksX1_due_0 12 rfl rfl)
theorem dX1_due_13 : decode cX1_due 13 = .ok (.goto 8, 3) := dk_167 0 8 (dk_at dksX1_due_0 13 rfl rfl)
theorem dX1_due_16 : decode cX1_due 16 = .ok (.aload_n 0, 1) := dk_42 (dk_at dksX1_due_0 16 rfl rfl)
theorem dX1_due_17 : decode cX1_due 17 = .ok (.iload_n 3, 1) := dk_29 (dk_at dksX1_due_0 17 rfl rfl)
theorem dX1_due_18 : decode cX1_due 18 = .ok (.invokevirtual 134, 3) := dk_182 0 134 (dk_at dksX1_due_0 18 rfl rfl)
theorem dX1_due_21 : decode cX1_due 21 = .ok (.astore 5, 2) := dk_58 5 (dk_at dksX1_due_0 21 rfl rfl)
theorem dX1_due_23 : decode cX1_due 23 = .ok (.aload_n 0, 1) := dk_42 (dk_at dksX1_due_0 23 rfl rfl)
theorem dX1_due_24 : decode cX1_due 24 = .ok (.iload_n 1, 1) := dk_27 (dk_at dksX1_due_1 0 rfl rfl)
theorem dX1_due_25 : decode cX1_due 25 = .ok (.iload_n 2, 1) := dk_28 (dk_at dksX1_due_1 1 rfl rfl)
theorem dX1_due_26 : decode cX1_due 26 = .ok (.invokevirtual 171, 3) := dk_182 0 171 (dk_at dksX1_due_1 2 rfl rfl)
theorem dX1_due_29 : decode cX1_due 29 = .ok (.astore 6, 2) := dk_58 6 (dk_at dksX1_due_1 5 rfl rfl)
theorem dX1_due_31 : decode cX1_due 31 = .ok (.iload_n 3, 1) := dk_29 (dk_at dksX1_due_1 7 rfl rfl)
theorem dX1_due_32 : decode cX1_due 32 = .ok (.iconst (-1), 1) := dk_2 (dk_at dksX1_due_1 8 rfl rfl)
theorem dX1_due_33 : decode cX1_due 33 = .ok (.if_icmp .eq 15, 3) := dk_159 0 15 (dk_at dksX1_due_1 9 rfl rfl)
theorem dX1_due_36 : decode cX1_due 36 = .ok (.aload 6, 2) := dk_25 6 (dk_at dksX1_due_1 12 rfl rfl)
theorem dX1_due_38 : decode cX1_due 38 = .ok (.invokevirtual 190, 3) := dk_182 0 190 (dk_at dksX1_due_1 14 rfl rfl)
theorem dX1_due_41 : decode cX1_due 41 = .ok (.iload_n 3, 1) := dk_29 (dk_at dksX1_due_1 17 rfl rfl)
theorem dX1_due_42 : decode cX1_due 42 = .ok (.invokestatic 192, 3) := dk_184 0 192 (dk_at dksX1_due_1 18 rfl rfl)
theorem dX1_due_45 : decode cX1_due 45 = .ok (.ifCond .eq 7, 3) := dk_153 0 7 (dk_at dksX1_due_1 21 rfl rfl)
theorem dX1_due_48 : decode cX1_due 48 = .ok (.iconst 1, 1) := dk_4 (dk_at dksX1_due_2 0 rfl rfl)
theorem dX1_due_49 : decode cX1_due 49 = .ok (.goto 4, 3) := dk_167 0 4 (dk_at dksX1_due_2 1 rfl rfl)
theorem dX1_due_52 : decode cX1_due 52 = .ok (.iconst 0, 1) := dk_3 (dk_at dksX1_due_2 4 rfl rfl)
theorem dX1_due_53 : decode cX1_due 53 = .ok (.invokestatic 195, 3) := dk_184 0 195 (dk_at dksX1_due_2 5 rfl rfl)
theorem dX1_due_56 : decode cX1_due 56 = .ok (.iload_n 3, 1) := dk_29 (dk_at dksX1_due_2 8 rfl rfl)
theorem dX1_due_57 : decode cX1_due 57 = .ok (.iconst (-1), 1) := dk_2 (dk_at dksX1_due_2 9 rfl rfl)
theorem dX1_due_58 : decode cX1_due 58 = .ok (.if_icmp .ne 11, 3) := dk_160 0 11 (dk_at dksX1_due_2 10 rfl rfl)
theorem dX1_due_61 : decode cX1_due 61 = .ok (.aload 6, 2) := dk_25 6 (dk_at dksX1_due_2 13 rfl rfl)
theorem dX1_due_63 : decode cX1_due 63 = .ok (.invokevirtual 198, 3) := dk_182 0 198 (dk_at dksX1_due_2 15 rfl rfl)
theorem dX1_due_66 : decode cX1_due 66 = .ok (.goto 9, 3) := dk_167 0 9 (dk_at dksX1_due_2 18 rfl rfl)
theorem dX1_due_69 : decode cX1_due 69 = .ok (.aload 6, 2) := dk_25 6 (dk_at dksX1_due_2 21 rfl rfl)
theorem dX1_due_71 : decode cX1_due 71 = .ok (.iload_n 3, 1) := dk_29 (dk_at dksX1_due_2 23 rfl rfl)
theorem dX1_due_72 : decode cX1_due 72 = .ok (.invokevirtual 201, 3) := dk_182 0 201 (dk_at dksX1_due_3 0 rfl rfl)
theorem dX1_due_75 : decode cX1_due 75 = .ok (.ireturn, 1) := dk_172 (dk_at dksX1_due_3 3 rfl rfl)
abbrev cX1_least : ByteArray := prog_1_method_29_code
def yX1_least : MethodName := ⟨RX1, "least", "(II)I"⟩
def dkwX1_least_0 : List UInt8 := [42, 27, 28, 182, 0, 171, 182, 0, 203, 172]
abbrev dktX1_least_0 : List UInt8 := dkwX1_least_0 ++ []
theorem dksX1_least_0 : cX1_least.data.toList.drop 0 = dktX1_least_0 := by decide +kernel
theorem dX1_least_0 : decode cX1_least 0 = .ok (.aload_n 0, 1) := dk_42 (dk_at dksX1_least_0 0 rfl rfl)
theorem dX1_least_1 : decode cX1_least 1 = .ok (.iload_n 1, 1) := dk_27 (dk_at dksX1_least_0 1 rfl rfl)
theorem dX1_least_2 : decode cX1_least 2 = .ok (.iload_n 2, 1) := dk_28 (dk_at dksX1_least_0 2 rfl rfl)
theorem dX1_least_3 : decode cX1_least 3 = .ok (.invokevirtual 171, 3) := dk_182 0 171 (dk_at dksX1_least_0 3 rfl rfl)
theorem dX1_least_6 : decode cX1_least 6 = .ok (.invokevirtual 203, 3) := dk_182 0 203 (dk_at dksX1_least_0 6 rfl rfl)
theorem dX1_least_9 : decode cX1_least 9 = .ok (.ireturn, 1) := dk_172 (dk_at dksX1_least_0 9 rfl rfl)
abbrev cX1_remove : ByteArray := prog_1_method_30_code
def yX1_remove : MethodName := ⟨RX1, "remove", "(II)I"⟩
def dkwX1_remove_1 : List UInt8 := [182, 0, 206, 172]
abbrev dktX1_remove_1 : List UInt8 := dkwX1_remove_1 ++ []
def dkwX1_remove_0 : List UInt8 := [42, 27, 28, 182, 0, 171, 78, 42, 42, 180, 0, 31, 182, 0, 90, 182, 0, 106, 42, 180, 0, 31, 27, 28]
abbrev dktX1_remove_0 : List UInt8 := dkwX1_remove_0 ++ dktX1_remove_1
theorem dksX1_remove_0 : cX1_remove.data.toList.drop 0 = dktX1_remove_0 := by decide +kernel
theorem dksX1_remove_1 : cX1_remove.data.toList.drop 24 = dktX1_remove_1 := dk_seg dksX1_remove_0 24 rfl rfl
theorem dX1_remove_0 : decode cX1_remove 0 = .ok (.aload_n 0, 1) := dk_42 (dk_at dksX1_remove_0 0 rfl rfl)
theorem dX1_remove_1 : decode cX1_remove 1 = .ok (.iload_n 1, 1) := dk_27 (dk_at dksX1_remove_0 1 rfl rfl)
theorem dX1_remove_2 : decode cX1_remove 2 = .ok (.iload_n 2, 1) := dk_28 (dk_at dksX1_remove_0 2 rfl rfl)
theorem dX1_remove_3 : decode cX1_remove 3 = .ok (.invokevirtual 171, 3) := dk_182 0 171 (dk_at dksX1_remove_0 3 rfl rfl)
theorem dX1_remove_6 : decode cX1_remove 6 = .ok (.astore_n 3, 1) := dk_78 (dk_at dksX1_remove_0 6 rfl rfl)
theorem dX1_remove_7 : decode cX1_remove 7 = .ok (.aload_n 0, 1) := dk_42 (dk_at dksX1_remove_0 7 rfl rfl)
theorem dX1_remove_8 : decode cX1_remove 8 = .ok (.aload_n 0, 1) := dk_42 (dk_at dksX1_remove_0 8 rfl rfl)
theorem dX1_remove_9 : decode cX1_remove 9 = .ok (.getfield 31, 3) := dk_180 0 31 (dk_at dksX1_remove_0 9 rfl rfl)
theorem dX1_remove_12 : decode cX1_remove 12 = .ok (.invokevirtual 90, 3) := dk_182 0 90 (dk_at dksX1_remove_0 12 rfl rfl)
theorem dX1_remove_15 : decode cX1_remove 15 = .ok (.invokevirtual 106, 3) := dk_182 0 106 (dk_at dksX1_remove_0 15 rfl rfl)
theorem dX1_remove_18 : decode cX1_remove 18 = .ok (.aload_n 0, 1) := dk_42 (dk_at dksX1_remove_0 18 rfl rfl)
theorem dX1_remove_19 : decode cX1_remove 19 = .ok (.getfield 31, 3) := dk_180 0 31 (dk_at dksX1_remove_0 19 rfl rfl)
theorem dX1_remove_22 : decode cX1_remove 22 = .ok (.iload_n 1, 1) := dk_27 (dk_at dksX1_remove_0 22 rfl rfl)
theorem dX1_remove_23 : decode cX1_remove 23 = .ok (.iload_n 2, 1) := dk_28 (dk_at dksX1_remove_0 23 rfl rfl)
theorem dX1_remove_24 : decode cX1_remove 24 = .ok (.invokevirtual 206, 3) := dk_182 0 206 (dk_at dksX1_remove_1 0 rfl rfl)
theorem dX1_remove_27 : decode cX1_remove 27 = .ok (.ireturn, 1) := dk_172 (dk_at dksX1_remove_1 3 rfl rfl)
abbrev cX1_choice : ByteArray := prog_1_method_31_code
def yX1_choice : MethodName := ⟨RX1, "choice", "(II)I"⟩
def dkwX1_choice_0 : List UInt8 := [42, 27, 28, 182, 0, 171, 78, 42, 180, 0, 31, 27, 28, 182, 0, 209, 180, 0, 213, 172]
abbrev dktX1_choice_0 : List UInt8 := dkwX1_choice_0 ++ []
theorem dksX1_choice_0 : cX1_choice.data.toList.drop 0 = dktX1_choice_0 := by decide +kernel
theorem dX1_choice_0 : decode cX1_choice 0 = .ok (.aload_n 0, 1) := dk_42 (dk_at dksX1_choice_0 0 rfl rfl)
theorem dX1_choice_1 : decode cX1_choice 1 = .ok (.iload_n 1, 1) := dk_27 (dk_at dksX1_choice_0 1 rfl rfl)
theorem dX1_choice_2 : decode cX1_choice 2 = .ok (.iload_n 2, 1) := dk_28 (dk_at dksX1_choice_0 2 rfl rfl)
theorem dX1_choice_3 : decode cX1_choice 3 = .ok (.invokevirtual 171, 3) := dk_182 0 171 (dk_at dksX1_choice_0 3 rfl rfl)
theorem dX1_choice_6 : decode cX1_choice 6 = .ok (.astore_n 3, 1) := dk_78 (dk_at dksX1_choice_0 6 rfl rfl)
theorem dX1_choice_7 : decode cX1_choice 7 = .ok (.aload_n 0, 1) := dk_42 (dk_at dksX1_choice_0 7 rfl rfl)
theorem dX1_choice_8 : decode cX1_choice 8 = .ok (.getfield 31, 3) := dk_180 0 31 (dk_at dksX1_choice_0 8 rfl rfl)
theorem dX1_choice_11 : decode cX1_choice 11 = .ok (.iload_n 1, 1) := dk_27 (dk_at dksX1_choice_0 11 rfl rfl)
theorem dX1_choice_12 : decode cX1_choice 12 = .ok (.iload_n 2, 1) := dk_28 (dk_at dksX1_choice_0 12 rfl rfl)
theorem dX1_choice_13 : decode cX1_choice 13 = .ok (.invokevirtual 209, 3) := dk_182 0 209 (dk_at dksX1_choice_0 13 rfl rfl)
theorem dX1_choice_16 : decode cX1_choice 16 = .ok (.getfield 213, 3) := dk_180 0 213 (dk_at dksX1_choice_0 16 rfl rfl)
theorem dX1_choice_19 : decode cX1_choice 19 = .ok (.ireturn, 1) := dk_172 (dk_at dksX1_choice_0 19 rfl rfl)
abbrev cX1_choose : ByteArray := prog_1_method_32_code
def yX1_choose : MethodName := ⟨RX1, "choose", "(II)I"⟩
def dkwX1_choose_1 : List UInt8 := [182, 0, 218, 172]
abbrev dktX1_choose_1 : List UInt8 := dkwX1_choose_1 ++ []
def dkwX1_choose_0 : List UInt8 := [42, 27, 28, 182, 0, 171, 78, 42, 42, 180, 0, 31, 182, 0, 90, 182, 0, 106, 42, 180, 0, 31, 27, 28]
abbrev dktX1_choose_0 : List UInt8 := dkwX1_choose_0 ++ dktX1_choose_1
theorem dksX1_choose_0 : cX1_choose.data.toList.drop 0 = dktX1_choose_0 := by decide +kernel
theorem dksX1_choose_1 : cX1_choose.data.toList.drop 24 = dktX1_choose_1 := dk_seg dksX1_choose_0 24 rfl rfl
theorem dX1_choose_0 : decode cX1_choose 0 = .ok (.aload_n 0, 1) := dk_42 (dk_at dksX1_choose_0 0 rfl rfl)
theorem dX1_choose_1 : decode cX1_choose 1 = .ok (.iload_n 1, 1) := dk_27 (dk_at dksX1_choose_0 1 rfl rfl)
theorem dX1_choose_2 : decode cX1_choose 2 = .ok (.iload_n 2, 1) := dk_28 (dk_at dksX1_choose_0 2 rfl rfl)
theorem dX1_choose_3 : decode cX1_choose 3 = .ok (.invokevirtual 171, 3) := dk_182 0 171 (dk_at dksX1_choose_0 3 rfl rfl)
theorem dX1_choose_6 : decode cX1_choose 6 = .ok (.astore_n 3, 1) := dk_78 (dk_at dksX1_choose_0 6 rfl rfl)
theorem dX1_choose_7 : decode cX1_choose 7 = .ok (.aload_n 0, 1) := dk_42 (dk_at dksX1_choose_0 7 rfl rfl)
theorem dX1_choose_8 : decode cX1_choose 8 = .ok (.aload_n 0, 1) := dk_42 (dk_at dksX1_choose_0 8 rfl rfl)
theorem dX1_choose_9 : decode cX1_choose 9 = .ok (.getfield 31, 3) := dk_180 0 31 (dk_at dksX1_choose_0 9 rfl rfl)
theorem dX1_choose_12 : decode cX1_choose 12 = .ok (.invokevirtual 90, 3) := dk_182 0 90 (dk_at dksX1_choose_0 12 rfl rfl)
theorem dX1_choose_15 : decode cX1_choose 15 = .ok (.invokevirtual 106, 3) := dk_182 0 106 (dk_at dksX1_choose_0 15 rfl rfl)
theorem dX1_choose_18 : decode cX1_choose 18 = .ok (.aload_n 0, 1) := dk_42 (dk_at dksX1_choose_0 18 rfl rfl)
theorem dX1_choose_19 : decode cX1_choose 19 = .ok (.getfield 31, 3) := dk_180 0 31 (dk_at dksX1_choose_0 19 rfl rfl)
theorem dX1_choose_22 : decode cX1_choose 22 = .ok (.iload_n 1, 1) := dk_27 (dk_at dksX1_choose_0 22 rfl rfl)
theorem dX1_choose_23 : decode cX1_choose 23 = .ok (.iload_n 2, 1) := dk_28 (dk_at dksX1_choose_0 23 rfl rfl)
theorem dX1_choose_24 : decode cX1_choose 24 = .ok (.invokevirtual 218, 3) := dk_182 0 218 (dk_at dksX1_choose_1 0 rfl rfl)
theorem dX1_choose_27 : decode cX1_choose 27 = .ok (.ireturn, 1) := dk_172 (dk_at dksX1_choose_1 3 rfl rfl)
abbrev cX1_ship : ByteArray := prog_1_method_33_code
def yX1_ship : MethodName := ⟨RX1, "ship", "(I)I"⟩
def dkwX1_ship_2 : List UInt8 := [183, 0, 233, 191]
abbrev dktX1_ship_2 : List UInt8 := dkwX1_ship_2 ++ []
def dkwX1_ship_1 : List UInt8 := [42, 45, 182, 0, 106, 21, 4, 172, 58, 4, 42, 25, 4, 180, 0, 226, 181, 0, 230, 187, 0, 231, 89]
abbrev dktX1_ship_1 : List UInt8 := dkwX1_ship_1 ++ dktX1_ship_2
def dkwX1_ship_0 : List UInt8 := [42, 27, 182, 0, 148, 77, 42, 180, 0, 31, 182, 0, 90, 78, 42, 180, 0, 31, 27, 182, 0, 221, 54, 4]
abbrev dktX1_ship_0 : List UInt8 := dkwX1_ship_0 ++ dktX1_ship_1
theorem dksX1_ship_0 : cX1_ship.data.toList.drop 0 = dktX1_ship_0 := by decide +kernel
theorem dksX1_ship_1 : cX1_ship.data.toList.drop 24 = dktX1_ship_1 := dk_seg dksX1_ship_0 24 rfl rfl
theorem dksX1_ship_2 : cX1_ship.data.toList.drop 47 = dktX1_ship_2 := dk_seg dksX1_ship_1 23 rfl rfl
theorem dX1_ship_0 : decode cX1_ship 0 = .ok (.aload_n 0, 1) := dk_42 (dk_at dksX1_ship_0 0 rfl rfl)
theorem dX1_ship_1 : decode cX1_ship 1 = .ok (.iload_n 1, 1) := dk_27 (dk_at dksX1_ship_0 1 rfl rfl)
theorem dX1_ship_2 : decode cX1_ship 2 = .ok (.invokevirtual 148, 3) := dk_182 0 148 (dk_at dksX1_ship_0 2 rfl rfl)
theorem dX1_ship_5 : decode cX1_ship 5 = .ok (.astore_n 2, 1) := dk_77 (dk_at dksX1_ship_0 5 rfl rfl)
theorem dX1_ship_6 : decode cX1_ship 6 = .ok (.aload_n 0, 1) := dk_42 (dk_at dksX1_ship_0 6 rfl rfl)
theorem dX1_ship_7 : decode cX1_ship 7 = .ok (.getfield 31, 3) := dk_180 0 31 (dk_at dksX1_ship_0 7 rfl rfl)
theorem dX1_ship_10 : decode cX1_ship 10 = .ok (.invokevirtual 90, 3) := dk_182 0 90 (dk_at dksX1_ship_0 10 rfl rfl)
theorem dX1_ship_13 : decode cX1_ship 13 = .ok (.astore_n 3, 1) := dk_78 (dk_at dksX1_ship_0 13 rfl rfl)
theorem dX1_ship_14 : decode cX1_ship 14 = .ok (.aload_n 0, 1) := dk_42 (dk_at dksX1_ship_0 14 rfl rfl)
theorem dX1_ship_15 : decode cX1_ship 15 = .ok (.getfield 31, 3) := dk_180 0 31 (dk_at dksX1_ship_0 15 rfl rfl)
theorem dX1_ship_18 : decode cX1_ship 18 = .ok (.iload_n 1, 1) := dk_27 (dk_at dksX1_ship_0 18 rfl rfl)
theorem dX1_ship_19 : decode cX1_ship 19 = .ok (.invokevirtual 221, 3) := dk_182 0 221 (dk_at dksX1_ship_0 19 rfl rfl)
theorem dX1_ship_22 : decode cX1_ship 22 = .ok (.istore 4, 2) := dk_54 4 (dk_at dksX1_ship_0 22 rfl rfl)
theorem dX1_ship_24 : decode cX1_ship 24 = .ok (.aload_n 0, 1) := dk_42 (dk_at dksX1_ship_1 0 rfl rfl)
theorem dX1_ship_25 : decode cX1_ship 25 = .ok (.aload_n 3, 1) := dk_45 (dk_at dksX1_ship_1 1 rfl rfl)
theorem dX1_ship_26 : decode cX1_ship 26 = .ok (.invokevirtual 106, 3) := dk_182 0 106 (dk_at dksX1_ship_1 2 rfl rfl)
theorem dX1_ship_29 : decode cX1_ship 29 = .ok (.iload 4, 2) := dk_21 4 (dk_at dksX1_ship_1 5 rfl rfl)
theorem dX1_ship_31 : decode cX1_ship 31 = .ok (.ireturn, 1) := dk_172 (dk_at dksX1_ship_1 7 rfl rfl)
theorem dX1_ship_32 : decode cX1_ship 32 = .ok (.astore 4, 2) := dk_58 4 (dk_at dksX1_ship_1 8 rfl rfl)
theorem dX1_ship_34 : decode cX1_ship 34 = .ok (.aload_n 0, 1) := dk_42 (dk_at dksX1_ship_1 10 rfl rfl)
theorem dX1_ship_35 : decode cX1_ship 35 = .ok (.aload 4, 2) := dk_25 4 (dk_at dksX1_ship_1 11 rfl rfl)
theorem dX1_ship_37 : decode cX1_ship 37 = .ok (.getfield 226, 3) := dk_180 0 226 (dk_at dksX1_ship_1 13 rfl rfl)
theorem dX1_ship_40 : decode cX1_ship 40 = .ok (.putfield 230, 3) := dk_181 0 230 (dk_at dksX1_ship_1 16 rfl rfl)
theorem dX1_ship_43 : decode cX1_ship 43 = .ok (.new 231, 3) := dk_187 0 231 (dk_at dksX1_ship_1 19 rfl rfl)
theorem dX1_ship_46 : decode cX1_ship 46 = .ok (.dup, 1) := dk_89 (dk_at dksX1_ship_1 22 rfl rfl)
theorem dX1_ship_47 : decode cX1_ship 47 = .ok (.invokespecial 233, 3) := dk_183 0 233 (dk_at dksX1_ship_2 0 rfl rfl)
theorem dX1_ship_50 : decode cX1_ship 50 = .ok (.athrow, 1) := dk_191 (dk_at dksX1_ship_2 3 rfl rfl)
abbrev cX1_refusal : ByteArray := prog_1_method_34_code
def yX1_refusal : MethodName := ⟨RX1, "refusal", "(I)I"⟩
def dkwX1_refusal_1 : List UInt8 := [187, 0, 13, 89, 183, 0, 15, 191]
abbrev dktX1_refusal_1 : List UInt8 := dkwX1_refusal_1 ++ []
def dkwX1_refusal_0 : List UInt8 := [42, 180, 0, 230, 198, 0, 7, 4, 167, 0, 4, 3, 184, 0, 234, 42, 180, 0, 230, 27, 46, 172, 77]
abbrev dktX1_refusal_0 : List UInt8 := dkwX1_refusal_0 ++ dktX1_refusal_1
theorem dksX1_refusal_0 : cX1_refusal.data.toList.drop 0 = dktX1_refusal_0 := by decide +kernel
theorem dksX1_refusal_1 : cX1_refusal.data.toList.drop 23 = dktX1_refusal_1 := dk_seg dksX1_refusal_0 23 rfl rfl
theorem dX1_refusal_0 : decode cX1_refusal 0 = .ok (.aload_n 0, 1) := dk_42 (dk_at dksX1_refusal_0 0 rfl rfl)
theorem dX1_refusal_1 : decode cX1_refusal 1 = .ok (.getfield 230, 3) := dk_180 0 230 (dk_at dksX1_refusal_0 1 rfl rfl)
theorem dX1_refusal_4 : decode cX1_refusal 4 = .ok (.ifnull 7, 3) := dk_198 0 7 (dk_at dksX1_refusal_0 4 rfl rfl)
theorem dX1_refusal_7 : decode cX1_refusal 7 = .ok (.iconst 1, 1) := dk_4 (dk_at dksX1_refusal_0 7 rfl rfl)
theorem dX1_refusal_8 : decode cX1_refusal 8 = .ok (.goto 4, 3) := dk_167 0 4 (dk_at dksX1_refusal_0 8 rfl rfl)
theorem dX1_refusal_11 : decode cX1_refusal 11 = .ok (.iconst 0, 1) := dk_3 (dk_at dksX1_refusal_0 11 rfl rfl)
theorem dX1_refusal_12 : decode cX1_refusal 12 = .ok (.invokestatic 234, 3) := dk_184 0 234 (dk_at dksX1_refusal_0 12 rfl rfl)
theorem dX1_refusal_15 : decode cX1_refusal 15 = .ok (.aload_n 0, 1) := dk_42 (dk_at dksX1_refusal_0 15 rfl rfl)
theorem dX1_refusal_16 : decode cX1_refusal 16 = .ok (.getfield 230, 3) := dk_180 0 230 (dk_at dksX1_refusal_0 16 rfl rfl)
theorem dX1_refusal_19 : decode cX1_refusal 19 = .ok (.iload_n 1, 1) := dk_27 (dk_at dksX1_refusal_0 19 rfl rfl)
theorem dX1_refusal_20 : decode cX1_refusal 20 = .ok (.iaload, 1) := dk_46 (dk_at dksX1_refusal_0 20 rfl rfl)
theorem dX1_refusal_21 : decode cX1_refusal 21 = .ok (.ireturn, 1) := dk_172 (dk_at dksX1_refusal_0 21 rfl rfl)
theorem dX1_refusal_22 : decode cX1_refusal 22 = .ok (.astore_n 2, 1) := dk_77 (dk_at dksX1_refusal_0 22 rfl rfl)
theorem dX1_refusal_23 : decode cX1_refusal 23 = .ok (.new 13, 3) := dk_187 0 13 (dk_at dksX1_refusal_1 0 rfl rfl)
theorem dX1_refusal_26 : decode cX1_refusal 26 = .ok (.dup, 1) := dk_89 (dk_at dksX1_refusal_1 3 rfl rfl)
theorem dX1_refusal_27 : decode cX1_refusal 27 = .ok (.invokespecial 15, 3) := dk_183 0 15 (dk_at dksX1_refusal_1 4 rfl rfl)
theorem dX1_refusal_30 : decode cX1_refusal 30 = .ok (.athrow, 1) := dk_191 (dk_at dksX1_refusal_1 7 rfl rfl)
abbrev cX1_notice : ByteArray := prog_1_method_35_code
def yX1_notice : MethodName := ⟨RX1, "notice", "(II)C"⟩
def dkwX1_notice_1 : List UInt8 := [184, 0, 195, 45, 28, 182, 0, 248, 172]
abbrev dktX1_notice_1 : List UInt8 := dkwX1_notice_1 ++ []
def dkwX1_notice_0 : List UInt8 := [42, 27, 182, 0, 148, 180, 0, 239, 78, 28, 133, 9, 45, 182, 0, 243, 4, 100, 133, 184, 0, 86]
abbrev dktX1_notice_0 : List UInt8 := dkwX1_notice_0 ++ dktX1_notice_1
theorem dksX1_notice_0 : cX1_notice.data.toList.drop 0 = dktX1_notice_0 := by decide +kernel
theorem dksX1_notice_1 : cX1_notice.data.toList.drop 22 = dktX1_notice_1 := dk_seg dksX1_notice_0 22 rfl rfl
theorem dX1_notice_0 : decode cX1_notice 0 = .ok (.aload_n 0, 1) := dk_42 (dk_at dksX1_notice_0 0 rfl rfl)
theorem dX1_notice_1 : decode cX1_notice 1 = .ok (.iload_n 1, 1) := dk_27 (dk_at dksX1_notice_0 1 rfl rfl)
theorem dX1_notice_2 : decode cX1_notice 2 = .ok (.invokevirtual 148, 3) := dk_182 0 148 (dk_at dksX1_notice_0 2 rfl rfl)
theorem dX1_notice_5 : decode cX1_notice 5 = .ok (.getfield 239, 3) := dk_180 0 239 (dk_at dksX1_notice_0 5 rfl rfl)
theorem dX1_notice_8 : decode cX1_notice 8 = .ok (.astore_n 3, 1) := dk_78 (dk_at dksX1_notice_0 8 rfl rfl)
theorem dX1_notice_9 : decode cX1_notice 9 = .ok (.iload_n 2, 1) := dk_28 (dk_at dksX1_notice_0 9 rfl rfl)
theorem dX1_notice_10 : decode cX1_notice 10 = .ok (.i2l, 1) := dk_133 (dk_at dksX1_notice_0 10 rfl rfl)
theorem dX1_notice_11 : decode cX1_notice 11 = .ok (.lconst 0, 1) := dk_9 (dk_at dksX1_notice_0 11 rfl rfl)
theorem dX1_notice_12 : decode cX1_notice 12 = .ok (.aload_n 3, 1) := dk_45 (dk_at dksX1_notice_0 12 rfl rfl)
theorem dX1_notice_13 : decode cX1_notice 13 = .ok (.invokevirtual 243, 3) := dk_182 0 243 (dk_at dksX1_notice_0 13 rfl rfl)
theorem dX1_notice_16 : decode cX1_notice 16 = .ok (.iconst 1, 1) := dk_4 (dk_at dksX1_notice_0 16 rfl rfl)
theorem dX1_notice_17 : decode cX1_notice 17 = .ok (.isub, 1) := dk_100 (dk_at dksX1_notice_0 17 rfl rfl)
theorem dX1_notice_18 : decode cX1_notice 18 = .ok (.i2l, 1) := dk_133 (dk_at dksX1_notice_0 18 rfl rfl)
theorem dX1_notice_19 : decode cX1_notice 19 = .ok (.invokestatic 86, 3) := dk_184 0 86 (dk_at dksX1_notice_0 19 rfl rfl)
theorem dX1_notice_22 : decode cX1_notice 22 = .ok (.invokestatic 195, 3) := dk_184 0 195 (dk_at dksX1_notice_1 0 rfl rfl)
theorem dX1_notice_25 : decode cX1_notice 25 = .ok (.aload_n 3, 1) := dk_45 (dk_at dksX1_notice_1 3 rfl rfl)
theorem dX1_notice_26 : decode cX1_notice 26 = .ok (.iload_n 2, 1) := dk_28 (dk_at dksX1_notice_1 4 rfl rfl)
theorem dX1_notice_27 : decode cX1_notice 27 = .ok (.invokevirtual 248, 3) := dk_182 0 248 (dk_at dksX1_notice_1 5 rfl rfl)
theorem dX1_notice_30 : decode cX1_notice 30 = .ok (.ireturn, 1) := dk_172 (dk_at dksX1_notice_1 8 rfl rfl)
abbrev cX1_desk : ByteArray := prog_1_method_36_code
def yX1_desk : MethodName := ⟨RX1, "desk", "(I)I"⟩
def dkwX1_desk_6 : List UInt8 := [180, 0, 38, 182, 0, 58, 172, 187, 0, 1, 89, 183, 0, 3, 191]
abbrev dktX1_desk_6 : List UInt8 := dkwX1_desk_6 ++ []
def dkwX1_desk_5 : List UInt8 := [182, 1, 3, 172, 42, 180, 0, 31, 4, 182, 1, 3, 172, 42, 180, 0, 50, 182, 1, 6, 172, 42]
abbrev dktX1_desk_5 : List UInt8 := dkwX1_desk_5 ++ dktX1_desk_6
def dkwX1_desk_4 : List UInt8 := [180, 0, 31, 3, 182, 0, 255, 172, 42, 180, 0, 31, 4, 182, 0, 255, 172, 42, 180, 0, 31, 3]
abbrev dktX1_desk_4 : List UInt8 := dkwX1_desk_4 ++ dktX1_desk_5
def dkwX1_desk_3 : List UInt8 := [180, 0, 31, 180, 0, 142, 182, 0, 74, 172, 42, 180, 0, 31, 17, 3, 255, 182, 0, 252, 172, 42]
abbrev dktX1_desk_3 : List UInt8 := dkwX1_desk_3 ++ dktX1_desk_4
def dkwX1_desk_2 : List UInt8 := [42, 180, 0, 31, 180, 0, 94, 182, 0, 74, 172, 42, 180, 0, 31, 180, 0, 70, 182, 0, 74, 172, 42]
abbrev dktX1_desk_2 : List UInt8 := dkwX1_desk_2 ++ dktX1_desk_3
def dkwX1_desk_1 : List UInt8 := [170, 0, 0, 0, 0, 0, 151, 0, 0, 0, 0, 0, 0, 0, 9, 0, 0, 0, 55, 0, 0, 0, 66, 0, 0, 0, 77, 0, 0, 0, 88, 0, 0, 0, 99, 0, 0, 0, 108, 0, 0, 0, 117, 0, 0, 0, 126, 0, 0, 0, 135, 0, 0, 0, 143]
abbrev dktX1_desk_1 : List UInt8 := dkwX1_desk_1 ++ dktX1_desk_2
def dkwX1_desk_0 : List UInt8 := [27]
abbrev dktX1_desk_0 : List UInt8 := dkwX1_desk_0 ++ dktX1_desk_1
theorem dksX1_desk_0 : cX1_desk.data.toList.drop 0 = dktX1_desk_0 := by decide +kernel
theorem dksX1_desk_1 : cX1_desk.data.toList.drop 1 = dktX1_desk_1 := dk_seg dksX1_desk_0 1 rfl rfl
theorem dksX1_desk_2 : cX1_desk.data.toList.drop 56 = dktX1_desk_2 := dk_seg dksX1_desk_1 55 rfl rfl
theorem dksX1_desk_3 : cX1_desk.data.toList.drop 79 = dktX1_desk_3 := dk_seg dksX1_desk_2 23 rfl rfl
theorem dksX1_desk_4 : cX1_desk.data.toList.drop 101 = dktX1_desk_4 := dk_seg dksX1_desk_3 22 rfl rfl
theorem dksX1_desk_5 : cX1_desk.data.toList.drop 123 = dktX1_desk_5 := dk_seg dksX1_desk_4 22 rfl rfl
theorem dksX1_desk_6 : cX1_desk.data.toList.drop 145 = dktX1_desk_6 := dk_seg dksX1_desk_5 22 rfl rfl
theorem dX1_desk_0 : decode cX1_desk 0 = .ok (.iload_n 1, 1) := dk_27 (dk_at dksX1_desk_0 0 rfl rfl)
theorem dX1_desk_1 : decode cX1_desk 1 = .ok (.tableswitch 151 0 9 #[55, 66, 77, 88, 99, 108, 117, 126, 135, 143], 55) := by decide +kernel
theorem dX1_desk_56 : decode cX1_desk 56 = .ok (.aload_n 0, 1) := dk_42 (dk_at dksX1_desk_2 0 rfl rfl)
theorem dX1_desk_57 : decode cX1_desk 57 = .ok (.getfield 31, 3) := dk_180 0 31 (dk_at dksX1_desk_2 1 rfl rfl)
theorem dX1_desk_60 : decode cX1_desk 60 = .ok (.getfield 94, 3) := dk_180 0 94 (dk_at dksX1_desk_2 4 rfl rfl)
theorem dX1_desk_63 : decode cX1_desk 63 = .ok (.invokevirtual 74, 3) := dk_182 0 74 (dk_at dksX1_desk_2 7 rfl rfl)
theorem dX1_desk_66 : decode cX1_desk 66 = .ok (.ireturn, 1) := dk_172 (dk_at dksX1_desk_2 10 rfl rfl)
theorem dX1_desk_67 : decode cX1_desk 67 = .ok (.aload_n 0, 1) := dk_42 (dk_at dksX1_desk_2 11 rfl rfl)
theorem dX1_desk_68 : decode cX1_desk 68 = .ok (.getfield 31, 3) := dk_180 0 31 (dk_at dksX1_desk_2 12 rfl rfl)
theorem dX1_desk_71 : decode cX1_desk 71 = .ok (.getfield 70, 3) := dk_180 0 70 (dk_at dksX1_desk_2 15 rfl rfl)
theorem dX1_desk_74 : decode cX1_desk 74 = .ok (.invokevirtual 74, 3) := dk_182 0 74 (dk_at dksX1_desk_2 18 rfl rfl)
theorem dX1_desk_77 : decode cX1_desk 77 = .ok (.ireturn, 1) := dk_172 (dk_at dksX1_desk_2 21 rfl rfl)
theorem dX1_desk_78 : decode cX1_desk 78 = .ok (.aload_n 0, 1) := dk_42 (dk_at dksX1_desk_2 22 rfl rfl)
theorem dX1_desk_79 : decode cX1_desk 79 = .ok (.getfield 31, 3) := dk_180 0 31 (dk_at dksX1_desk_3 0 rfl rfl)
theorem dX1_desk_82 : decode cX1_desk 82 = .ok (.getfield 142, 3) := dk_180 0 142 (dk_at dksX1_desk_3 3 rfl rfl)
theorem dX1_desk_85 : decode cX1_desk 85 = .ok (.invokevirtual 74, 3) := dk_182 0 74 (dk_at dksX1_desk_3 6 rfl rfl)
theorem dX1_desk_88 : decode cX1_desk 88 = .ok (.ireturn, 1) := dk_172 (dk_at dksX1_desk_3 9 rfl rfl)
theorem dX1_desk_89 : decode cX1_desk 89 = .ok (.aload_n 0, 1) := dk_42 (dk_at dksX1_desk_3 10 rfl rfl)
theorem dX1_desk_90 : decode cX1_desk 90 = .ok (.getfield 31, 3) := dk_180 0 31 (dk_at dksX1_desk_3 11 rfl rfl)
theorem dX1_desk_93 : decode cX1_desk 93 = .ok (.sipush 1023, 3) := dk_17 3 255 (dk_at dksX1_desk_3 14 rfl rfl)
theorem dX1_desk_96 : decode cX1_desk 96 = .ok (.invokevirtual 252, 3) := dk_182 0 252 (dk_at dksX1_desk_3 17 rfl rfl)
theorem dX1_desk_99 : decode cX1_desk 99 = .ok (.ireturn, 1) := dk_172 (dk_at dksX1_desk_3 20 rfl rfl)
theorem dX1_desk_100 : decode cX1_desk 100 = .ok (.aload_n 0, 1) := dk_42 (dk_at dksX1_desk_3 21 rfl rfl)
theorem dX1_desk_101 : decode cX1_desk 101 = .ok (.getfield 31, 3) := dk_180 0 31 (dk_at dksX1_desk_4 0 rfl rfl)
theorem dX1_desk_104 : decode cX1_desk 104 = .ok (.iconst 0, 1) := dk_3 (dk_at dksX1_desk_4 3 rfl rfl)
theorem dX1_desk_105 : decode cX1_desk 105 = .ok (.invokevirtual 255, 3) := dk_182 0 255 (dk_at dksX1_desk_4 4 rfl rfl)
theorem dX1_desk_108 : decode cX1_desk 108 = .ok (.ireturn, 1) := dk_172 (dk_at dksX1_desk_4 7 rfl rfl)
theorem dX1_desk_109 : decode cX1_desk 109 = .ok (.aload_n 0, 1) := dk_42 (dk_at dksX1_desk_4 8 rfl rfl)
theorem dX1_desk_110 : decode cX1_desk 110 = .ok (.getfield 31, 3) := dk_180 0 31 (dk_at dksX1_desk_4 9 rfl rfl)
theorem dX1_desk_113 : decode cX1_desk 113 = .ok (.iconst 1, 1) := dk_4 (dk_at dksX1_desk_4 12 rfl rfl)
theorem dX1_desk_114 : decode cX1_desk 114 = .ok (.invokevirtual 255, 3) := dk_182 0 255 (dk_at dksX1_desk_4 13 rfl rfl)
theorem dX1_desk_117 : decode cX1_desk 117 = .ok (.ireturn, 1) := dk_172 (dk_at dksX1_desk_4 16 rfl rfl)
theorem dX1_desk_118 : decode cX1_desk 118 = .ok (.aload_n 0, 1) := dk_42 (dk_at dksX1_desk_4 17 rfl rfl)
theorem dX1_desk_119 : decode cX1_desk 119 = .ok (.getfield 31, 3) := dk_180 0 31 (dk_at dksX1_desk_4 18 rfl rfl)
theorem dX1_desk_122 : decode cX1_desk 122 = .ok (.iconst 0, 1) := dk_3 (dk_at dksX1_desk_4 21 rfl rfl)
theorem dX1_desk_123 : decode cX1_desk 123 = .ok (.invokevirtual 259, 3) := dk_182 1 3 (dk_at dksX1_desk_5 0 rfl rfl)
theorem dX1_desk_126 : decode cX1_desk 126 = .ok (.ireturn, 1) := dk_172 (dk_at dksX1_desk_5 3 rfl rfl)
theorem dX1_desk_127 : decode cX1_desk 127 = .ok (.aload_n 0, 1) := dk_42 (dk_at dksX1_desk_5 4 rfl rfl)
theorem dX1_desk_128 : decode cX1_desk 128 = .ok (.getfield 31, 3) := dk_180 0 31 (dk_at dksX1_desk_5 5 rfl rfl)
theorem dX1_desk_131 : decode cX1_desk 131 = .ok (.iconst 1, 1) := dk_4 (dk_at dksX1_desk_5 8 rfl rfl)
theorem dX1_desk_132 : decode cX1_desk 132 = .ok (.invokevirtual 259, 3) := dk_182 1 3 (dk_at dksX1_desk_5 9 rfl rfl)
theorem dX1_desk_135 : decode cX1_desk 135 = .ok (.ireturn, 1) := dk_172 (dk_at dksX1_desk_5 12 rfl rfl)
theorem dX1_desk_136 : decode cX1_desk 136 = .ok (.aload_n 0, 1) := dk_42 (dk_at dksX1_desk_5 13 rfl rfl)
theorem dX1_desk_137 : decode cX1_desk 137 = .ok (.getfield 50, 3) := dk_180 0 50 (dk_at dksX1_desk_5 14 rfl rfl)
theorem dX1_desk_140 : decode cX1_desk 140 = .ok (.invokevirtual 262, 3) := dk_182 1 6 (dk_at dksX1_desk_5 17 rfl rfl)
theorem dX1_desk_143 : decode cX1_desk 143 = .ok (.ireturn, 1) := dk_172 (dk_at dksX1_desk_5 20 rfl rfl)
theorem dX1_desk_144 : decode cX1_desk 144 = .ok (.aload_n 0, 1) := dk_42 (dk_at dksX1_desk_5 21 rfl rfl)
theorem dX1_desk_145 : decode cX1_desk 145 = .ok (.getfield 38, 3) := dk_180 0 38 (dk_at dksX1_desk_6 0 rfl rfl)
theorem dX1_desk_148 : decode cX1_desk 148 = .ok (.invokevirtual 58, 3) := dk_182 0 58 (dk_at dksX1_desk_6 3 rfl rfl)
theorem dX1_desk_151 : decode cX1_desk 151 = .ok (.ireturn, 1) := dk_172 (dk_at dksX1_desk_6 6 rfl rfl)
theorem dX1_desk_152 : decode cX1_desk 152 = .ok (.new 1, 3) := dk_187 0 1 (dk_at dksX1_desk_6 7 rfl rfl)
theorem dX1_desk_155 : decode cX1_desk 155 = .ok (.dup, 1) := dk_89 (dk_at dksX1_desk_6 10 rfl rfl)
theorem dX1_desk_156 : decode cX1_desk 156 = .ok (.invokespecial 3, 3) := dk_183 0 3 (dk_at dksX1_desk_6 11 rfl rfl)
theorem dX1_desk_159 : decode cX1_desk 159 = .ok (.athrow, 1) := dk_191 (dk_at dksX1_desk_6 14 rfl rfl)
abbrev cX1_demands : ByteArray := prog_1_method_37_code
def yX1_demands : MethodName := ⟨RX1, "demands", "(I)J"⟩
def dkwX1_demands_0 : List UInt8 := [42, 27, 182, 0, 110, 180, 1, 7, 173]
abbrev dktX1_demands_0 : List UInt8 := dkwX1_demands_0 ++ []
theorem dksX1_demands_0 : cX1_demands.data.toList.drop 0 = dktX1_demands_0 := by decide +kernel
theorem dX1_demands_0 : decode cX1_demands 0 = .ok (.aload_n 0, 1) := dk_42 (dk_at dksX1_demands_0 0 rfl rfl)
theorem dX1_demands_1 : decode cX1_demands 1 = .ok (.iload_n 1, 1) := dk_27 (dk_at dksX1_demands_0 1 rfl rfl)
theorem dX1_demands_2 : decode cX1_demands 2 = .ok (.invokevirtual 110, 3) := dk_182 0 110 (dk_at dksX1_demands_0 2 rfl rfl)
theorem dX1_demands_5 : decode cX1_demands 5 = .ok (.getfield 263, 3) := dk_180 1 7 (dk_at dksX1_demands_0 5 rfl rfl)
theorem dX1_demands_8 : decode cX1_demands 8 = .ok (.lreturn, 1) := dk_173 (dk_at dksX1_demands_0 8 rfl rfl)
abbrev cX1_licence : ByteArray := prog_1_method_38_code
def yX1_licence : MethodName := ⟨RX1, "licence", "(II)I"⟩
def dkwX1_licence_3 : List UInt8 := [45, 180, 1, 7, 184, 1, 23, 172, 187, 0, 1, 89, 183, 0, 3, 191]
abbrev dktX1_licence_3 : List UInt8 := dkwX1_licence_3 ++ []
def dkwX1_licence_2 : List UInt8 := [45, 180, 1, 11, 172, 45, 180, 1, 14, 172, 45, 180, 1, 17, 172, 42, 180, 0, 31, 27, 182, 1, 20, 172]
abbrev dktX1_licence_2 : List UInt8 := dkwX1_licence_2 ++ dktX1_licence_3
def dkwX1_licence_1 : List UInt8 := [170, 0, 0, 0, 65, 0, 0, 0, 0, 0, 0, 0, 4, 0, 0, 0, 33, 0, 0, 0, 38, 0, 0, 0, 43, 0, 0, 0, 48, 0, 0, 0, 57]
abbrev dktX1_licence_1 : List UInt8 := dkwX1_licence_1 ++ dktX1_licence_2
def dkwX1_licence_0 : List UInt8 := [42, 27, 182, 0, 110, 78, 28]
abbrev dktX1_licence_0 : List UInt8 := dkwX1_licence_0 ++ dktX1_licence_1
theorem dksX1_licence_0 : cX1_licence.data.toList.drop 0 = dktX1_licence_0 := by decide +kernel
theorem dksX1_licence_1 : cX1_licence.data.toList.drop 7 = dktX1_licence_1 := dk_seg dksX1_licence_0 7 rfl rfl
theorem dksX1_licence_2 : cX1_licence.data.toList.drop 40 = dktX1_licence_2 := dk_seg dksX1_licence_1 33 rfl rfl
theorem dksX1_licence_3 : cX1_licence.data.toList.drop 64 = dktX1_licence_3 := dk_seg dksX1_licence_2 24 rfl rfl
theorem dX1_licence_0 : decode cX1_licence 0 = .ok (.aload_n 0, 1) := dk_42 (dk_at dksX1_licence_0 0 rfl rfl)
theorem dX1_licence_1 : decode cX1_licence 1 = .ok (.iload_n 1, 1) := dk_27 (dk_at dksX1_licence_0 1 rfl rfl)
theorem dX1_licence_2 : decode cX1_licence 2 = .ok (.invokevirtual 110, 3) := dk_182 0 110 (dk_at dksX1_licence_0 2 rfl rfl)
theorem dX1_licence_5 : decode cX1_licence 5 = .ok (.astore_n 3, 1) := dk_78 (dk_at dksX1_licence_0 5 rfl rfl)
theorem dX1_licence_6 : decode cX1_licence 6 = .ok (.iload_n 2, 1) := dk_28 (dk_at dksX1_licence_0 6 rfl rfl)
theorem dX1_licence_7 : decode cX1_licence 7 = .ok (.tableswitch 65 0 4 #[33, 38, 43, 48, 57], 33) := by decide +kernel
theorem dX1_licence_40 : decode cX1_licence 40 = .ok (.aload_n 3, 1) := dk_45 (dk_at dksX1_licence_2 0 rfl rfl)
theorem dX1_licence_41 : decode cX1_licence 41 = .ok (.getfield 267, 3) := dk_180 1 11 (dk_at dksX1_licence_2 1 rfl rfl)
theorem dX1_licence_44 : decode cX1_licence 44 = .ok (.ireturn, 1) := dk_172 (dk_at dksX1_licence_2 4 rfl rfl)
theorem dX1_licence_45 : decode cX1_licence 45 = .ok (.aload_n 3, 1) := dk_45 (dk_at dksX1_licence_2 5 rfl rfl)
theorem dX1_licence_46 : decode cX1_licence 46 = .ok (.getfield 270, 3) := dk_180 1 14 (dk_at dksX1_licence_2 6 rfl rfl)
theorem dX1_licence_49 : decode cX1_licence 49 = .ok (.ireturn, 1) := dk_172 (dk_at dksX1_licence_2 9 rfl rfl)
theorem dX1_licence_50 : decode cX1_licence 50 = .ok (.aload_n 3, 1) := dk_45 (dk_at dksX1_licence_2 10 rfl rfl)
theorem dX1_licence_51 : decode cX1_licence 51 = .ok (.getfield 273, 3) := dk_180 1 17 (dk_at dksX1_licence_2 11 rfl rfl)
theorem dX1_licence_54 : decode cX1_licence 54 = .ok (.ireturn, 1) := dk_172 (dk_at dksX1_licence_2 14 rfl rfl)
theorem dX1_licence_55 : decode cX1_licence 55 = .ok (.aload_n 0, 1) := dk_42 (dk_at dksX1_licence_2 15 rfl rfl)
theorem dX1_licence_56 : decode cX1_licence 56 = .ok (.getfield 31, 3) := dk_180 0 31 (dk_at dksX1_licence_2 16 rfl rfl)
theorem dX1_licence_59 : decode cX1_licence 59 = .ok (.iload_n 1, 1) := dk_27 (dk_at dksX1_licence_2 19 rfl rfl)
theorem dX1_licence_60 : decode cX1_licence 60 = .ok (.invokevirtual 276, 3) := dk_182 1 20 (dk_at dksX1_licence_2 20 rfl rfl)
theorem dX1_licence_63 : decode cX1_licence 63 = .ok (.ireturn, 1) := dk_172 (dk_at dksX1_licence_2 23 rfl rfl)
theorem dX1_licence_64 : decode cX1_licence 64 = .ok (.aload_n 3, 1) := dk_45 (dk_at dksX1_licence_3 0 rfl rfl)
theorem dX1_licence_65 : decode cX1_licence 65 = .ok (.getfield 263, 3) := dk_180 1 7 (dk_at dksX1_licence_3 1 rfl rfl)
theorem dX1_licence_68 : decode cX1_licence 68 = .ok (.invokestatic 279, 3) := dk_184 1 23 (dk_at dksX1_licence_3 4 rfl rfl)
theorem dX1_licence_71 : decode cX1_licence 71 = .ok (.ireturn, 1) := dk_172 (dk_at dksX1_licence_3 7 rfl rfl)
theorem dX1_licence_72 : decode cX1_licence 72 = .ok (.new 1, 3) := dk_187 0 1 (dk_at dksX1_licence_3 8 rfl rfl)
theorem dX1_licence_75 : decode cX1_licence 75 = .ok (.dup, 1) := dk_89 (dk_at dksX1_licence_3 11 rfl rfl)
theorem dX1_licence_76 : decode cX1_licence 76 = .ok (.invokespecial 3, 3) := dk_183 0 3 (dk_at dksX1_licence_3 12 rfl rfl)
theorem dX1_licence_79 : decode cX1_licence 79 = .ok (.athrow, 1) := dk_191 (dk_at dksX1_licence_3 15 rfl rfl)
abbrev cX1_file : ByteArray := prog_1_method_39_code
def yX1_file : MethodName := ⟨RX1, "file", "(II)I"⟩
def dkwX1_file_3 : List UInt8 := [27, 3, 182, 1, 40, 172, 42, 180, 0, 31, 27, 4, 182, 1, 40, 172, 187, 0, 1, 89, 183, 0, 3, 191]
abbrev dktX1_file_3 : List UInt8 := dkwX1_file_3 ++ []
def dkwX1_file_2 : List UInt8 := [45, 182, 1, 29, 172, 45, 180, 1, 32, 172, 45, 180, 1, 35, 172, 45, 180, 1, 38, 172, 42, 180, 0, 31]
abbrev dktX1_file_2 : List UInt8 := dkwX1_file_2 ++ dktX1_file_3
def dkwX1_file_1 : List UInt8 := [170, 0, 0, 0, 77, 0, 0, 0, 0, 0, 0, 0, 5, 0, 0, 0, 37, 0, 0, 0, 42, 0, 0, 0, 47, 0, 0, 0, 52, 0, 0, 0, 57, 0, 0, 0, 67]
abbrev dktX1_file_1 : List UInt8 := dkwX1_file_1 ++ dktX1_file_2
def dkwX1_file_0 : List UInt8 := [42, 27, 182, 0, 134, 78, 28]
abbrev dktX1_file_0 : List UInt8 := dkwX1_file_0 ++ dktX1_file_1
theorem dksX1_file_0 : cX1_file.data.toList.drop 0 = dktX1_file_0 := by decide +kernel
theorem dksX1_file_1 : cX1_file.data.toList.drop 7 = dktX1_file_1 := dk_seg dksX1_file_0 7 rfl rfl
theorem dksX1_file_2 : cX1_file.data.toList.drop 44 = dktX1_file_2 := dk_seg dksX1_file_1 37 rfl rfl
theorem dksX1_file_3 : cX1_file.data.toList.drop 68 = dktX1_file_3 := dk_seg dksX1_file_2 24 rfl rfl
theorem dX1_file_0 : decode cX1_file 0 = .ok (.aload_n 0, 1) := dk_42 (dk_at dksX1_file_0 0 rfl rfl)
theorem dX1_file_1 : decode cX1_file 1 = .ok (.iload_n 1, 1) := dk_27 (dk_at dksX1_file_0 1 rfl rfl)
theorem dX1_file_2 : decode cX1_file 2 = .ok (.invokevirtual 134, 3) := dk_182 0 134 (dk_at dksX1_file_0 2 rfl rfl)
theorem dX1_file_5 : decode cX1_file 5 = .ok (.astore_n 3, 1) := dk_78 (dk_at dksX1_file_0 5 rfl rfl)
theorem dX1_file_6 : decode cX1_file 6 = .ok (.iload_n 2, 1) := dk_28 (dk_at dksX1_file_0 6 rfl rfl)
theorem dX1_file_7 : decode cX1_file 7 = .ok (.tableswitch 77 0 5 #[37, 42, 47, 52, 57, 67], 37) := by decide +kernel
theorem dX1_file_44 : decode cX1_file 44 = .ok (.aload_n 3, 1) := dk_45 (dk_at dksX1_file_2 0 rfl rfl)
theorem dX1_file_45 : decode cX1_file 45 = .ok (.invokevirtual 285, 3) := dk_182 1 29 (dk_at dksX1_file_2 1 rfl rfl)
theorem dX1_file_48 : decode cX1_file 48 = .ok (.ireturn, 1) := dk_172 (dk_at dksX1_file_2 4 rfl rfl)
theorem dX1_file_49 : decode cX1_file 49 = .ok (.aload_n 3, 1) := dk_45 (dk_at dksX1_file_2 5 rfl rfl)
theorem dX1_file_50 : decode cX1_file 50 = .ok (.getfield 288, 3) := dk_180 1 32 (dk_at dksX1_file_2 6 rfl rfl)
theorem dX1_file_53 : decode cX1_file 53 = .ok (.ireturn, 1) := dk_172 (dk_at dksX1_file_2 9 rfl rfl)
theorem dX1_file_54 : decode cX1_file 54 = .ok (.aload_n 3, 1) := dk_45 (dk_at dksX1_file_2 10 rfl rfl)
theorem dX1_file_55 : decode cX1_file 55 = .ok (.getfield 291, 3) := dk_180 1 35 (dk_at dksX1_file_2 11 rfl rfl)
theorem dX1_file_58 : decode cX1_file 58 = .ok (.ireturn, 1) := dk_172 (dk_at dksX1_file_2 14 rfl rfl)
theorem dX1_file_59 : decode cX1_file 59 = .ok (.aload_n 3, 1) := dk_45 (dk_at dksX1_file_2 15 rfl rfl)
theorem dX1_file_60 : decode cX1_file 60 = .ok (.getfield 294, 3) := dk_180 1 38 (dk_at dksX1_file_2 16 rfl rfl)
theorem dX1_file_63 : decode cX1_file 63 = .ok (.ireturn, 1) := dk_172 (dk_at dksX1_file_2 19 rfl rfl)
theorem dX1_file_64 : decode cX1_file 64 = .ok (.aload_n 0, 1) := dk_42 (dk_at dksX1_file_2 20 rfl rfl)
theorem dX1_file_65 : decode cX1_file 65 = .ok (.getfield 31, 3) := dk_180 0 31 (dk_at dksX1_file_2 21 rfl rfl)
theorem dX1_file_68 : decode cX1_file 68 = .ok (.iload_n 1, 1) := dk_27 (dk_at dksX1_file_3 0 rfl rfl)
theorem dX1_file_69 : decode cX1_file 69 = .ok (.iconst 0, 1) := dk_3 (dk_at dksX1_file_3 1 rfl rfl)
theorem dX1_file_70 : decode cX1_file 70 = .ok (.invokevirtual 296, 3) := dk_182 1 40 (dk_at dksX1_file_3 2 rfl rfl)
theorem dX1_file_73 : decode cX1_file 73 = .ok (.ireturn, 1) := dk_172 (dk_at dksX1_file_3 5 rfl rfl)
theorem dX1_file_74 : decode cX1_file 74 = .ok (.aload_n 0, 1) := dk_42 (dk_at dksX1_file_3 6 rfl rfl)
theorem dX1_file_75 : decode cX1_file 75 = .ok (.getfield 31, 3) := dk_180 0 31 (dk_at dksX1_file_3 7 rfl rfl)
theorem dX1_file_78 : decode cX1_file 78 = .ok (.iload_n 1, 1) := dk_27 (dk_at dksX1_file_3 10 rfl rfl)
theorem dX1_file_79 : decode cX1_file 79 = .ok (.iconst 1, 1) := dk_4 (dk_at dksX1_file_3 11 rfl rfl)
theorem dX1_file_80 : decode cX1_file 80 = .ok (.invokevirtual 296, 3) := dk_182 1 40 (dk_at dksX1_file_3 12 rfl rfl)
theorem dX1_file_83 : decode cX1_file 83 = .ok (.ireturn, 1) := dk_172 (dk_at dksX1_file_3 15 rfl rfl)
theorem dX1_file_84 : decode cX1_file 84 = .ok (.new 1, 3) := dk_187 0 1 (dk_at dksX1_file_3 16 rfl rfl)
theorem dX1_file_87 : decode cX1_file 87 = .ok (.dup, 1) := dk_89 (dk_at dksX1_file_3 19 rfl rfl)
theorem dX1_file_88 : decode cX1_file 88 = .ok (.invokespecial 3, 3) := dk_183 0 3 (dk_at dksX1_file_3 20 rfl rfl)
theorem dX1_file_91 : decode cX1_file 91 = .ok (.athrow, 1) := dk_191 (dk_at dksX1_file_3 23 rfl rfl)
abbrev cX1_work : ByteArray := prog_1_method_40_code
def yX1_work : MethodName := ⟨RX1, "work", "(II)I"⟩
def dkwX1_work_4 : List UInt8 := [180, 0, 31, 42, 180, 0, 31, 27, 182, 1, 57, 182, 0, 252, 172, 187, 0, 1, 89, 183, 0, 3, 191]
abbrev dktX1_work_4 : List UInt8 := dkwX1_work_4 ++ []
def dkwX1_work_3 : List UInt8 := [182, 1, 52, 4, 27, 120, 2, 130, 126, 172, 45, 180, 1, 54, 172, 45, 180, 0, 239, 182, 0, 243, 172, 42]
abbrev dktX1_work_3 : List UInt8 := dkwX1_work_3 ++ dktX1_work_4
def dkwX1_work_2 : List UInt8 := [45, 180, 1, 44, 172, 42, 180, 0, 31, 27, 182, 1, 46, 172, 45, 180, 1, 49, 172, 42, 180, 0, 31, 27]
abbrev dktX1_work_2 : List UInt8 := dkwX1_work_2 ++ dktX1_work_3
def dkwX1_work_1 : List UInt8 := [170, 0, 0, 0, 104, 0, 0, 0, 0, 0, 0, 0, 6, 0, 0, 0, 41, 0, 0, 0, 46, 0, 0, 0, 55, 0, 0, 0, 60, 0, 0, 0, 75, 0, 0, 0, 80, 0, 0, 0, 88]
abbrev dktX1_work_1 : List UInt8 := dkwX1_work_1 ++ dktX1_work_2
def dkwX1_work_0 : List UInt8 := [42, 27, 182, 0, 148, 78, 28]
abbrev dktX1_work_0 : List UInt8 := dkwX1_work_0 ++ dktX1_work_1
theorem dksX1_work_0 : cX1_work.data.toList.drop 0 = dktX1_work_0 := by decide +kernel
theorem dksX1_work_1 : cX1_work.data.toList.drop 7 = dktX1_work_1 := dk_seg dksX1_work_0 7 rfl rfl
theorem dksX1_work_2 : cX1_work.data.toList.drop 48 = dktX1_work_2 := dk_seg dksX1_work_1 41 rfl rfl
theorem dksX1_work_3 : cX1_work.data.toList.drop 72 = dktX1_work_3 := dk_seg dksX1_work_2 24 rfl rfl
theorem dksX1_work_4 : cX1_work.data.toList.drop 96 = dktX1_work_4 := dk_seg dksX1_work_3 24 rfl rfl
theorem dX1_work_0 : decode cX1_work 0 = .ok (.aload_n 0, 1) := dk_42 (dk_at dksX1_work_0 0 rfl rfl)
theorem dX1_work_1 : decode cX1_work 1 = .ok (.iload_n 1, 1) := dk_27 (dk_at dksX1_work_0 1 rfl rfl)
theorem dX1_work_2 : decode cX1_work 2 = .ok (.invokevirtual 148, 3) := dk_182 0 148 (dk_at dksX1_work_0 2 rfl rfl)
theorem dX1_work_5 : decode cX1_work 5 = .ok (.astore_n 3, 1) := dk_78 (dk_at dksX1_work_0 5 rfl rfl)
theorem dX1_work_6 : decode cX1_work 6 = .ok (.iload_n 2, 1) := dk_28 (dk_at dksX1_work_0 6 rfl rfl)
theorem dX1_work_7 : decode cX1_work 7 = .ok (.tableswitch 104 0 6 #[41, 46, 55, 60, 75, 80, 88], 41) := by decide +kernel
theorem dX1_work_48 : decode cX1_work 48 = .ok (.aload_n 3, 1) := dk_45 (dk_at dksX1_work_2 0 rfl rfl)
theorem dX1_work_49 : decode cX1_work 49 = .ok (.getfield 300, 3) := dk_180 1 44 (dk_at dksX1_work_2 1 rfl rfl)
theorem dX1_work_52 : decode cX1_work 52 = .ok (.ireturn, 1) := dk_172 (dk_at dksX1_work_2 4 rfl rfl)
theorem dX1_work_53 : decode cX1_work 53 = .ok (.aload_n 0, 1) := dk_42 (dk_at dksX1_work_2 5 rfl rfl)
theorem dX1_work_54 : decode cX1_work 54 = .ok (.getfield 31, 3) := dk_180 0 31 (dk_at dksX1_work_2 6 rfl rfl)
theorem dX1_work_57 : decode cX1_work 57 = .ok (.iload_n 1, 1) := dk_27 (dk_at dksX1_work_2 9 rfl rfl)
theorem dX1_work_58 : decode cX1_work 58 = .ok (.invokevirtual 302, 3) := dk_182 1 46 (dk_at dksX1_work_2 10 rfl rfl)
theorem dX1_work_61 : decode cX1_work 61 = .ok (.ireturn, 1) := dk_172 (dk_at dksX1_work_2 13 rfl rfl)
theorem dX1_work_62 : decode cX1_work 62 = .ok (.aload_n 3, 1) := dk_45 (dk_at dksX1_work_2 14 rfl rfl)
theorem dX1_work_63 : decode cX1_work 63 = .ok (.getfield 305, 3) := dk_180 1 49 (dk_at dksX1_work_2 15 rfl rfl)
theorem dX1_work_66 : decode cX1_work 66 = .ok (.ireturn, 1) := dk_172 (dk_at dksX1_work_2 18 rfl rfl)
theorem dX1_work_67 : decode cX1_work 67 = .ok (.aload_n 0, 1) := dk_42 (dk_at dksX1_work_2 19 rfl rfl)
theorem dX1_work_68 : decode cX1_work 68 = .ok (.getfield 31, 3) := dk_180 0 31 (dk_at dksX1_work_2 20 rfl rfl)
theorem dX1_work_71 : decode cX1_work 71 = .ok (.iload_n 1, 1) := dk_27 (dk_at dksX1_work_2 23 rfl rfl)
theorem dX1_work_72 : decode cX1_work 72 = .ok (.invokevirtual 308, 3) := dk_182 1 52 (dk_at dksX1_work_3 0 rfl rfl)
theorem dX1_work_75 : decode cX1_work 75 = .ok (.iconst 1, 1) := dk_4 (dk_at dksX1_work_3 3 rfl rfl)
theorem dX1_work_76 : decode cX1_work 76 = .ok (.iload_n 1, 1) := dk_27 (dk_at dksX1_work_3 4 rfl rfl)
theorem dX1_work_77 : decode cX1_work 77 = .ok (.ishl, 1) := dk_120 (dk_at dksX1_work_3 5 rfl rfl)
theorem dX1_work_78 : decode cX1_work 78 = .ok (.iconst (-1), 1) := dk_2 (dk_at dksX1_work_3 6 rfl rfl)
theorem dX1_work_79 : decode cX1_work 79 = .ok (.ixor, 1) := dk_130 (dk_at dksX1_work_3 7 rfl rfl)
theorem dX1_work_80 : decode cX1_work 80 = .ok (.iand, 1) := dk_126 (dk_at dksX1_work_3 8 rfl rfl)
theorem dX1_work_81 : decode cX1_work 81 = .ok (.ireturn, 1) := dk_172 (dk_at dksX1_work_3 9 rfl rfl)
theorem dX1_work_82 : decode cX1_work 82 = .ok (.aload_n 3, 1) := dk_45 (dk_at dksX1_work_3 10 rfl rfl)
theorem dX1_work_83 : decode cX1_work 83 = .ok (.getfield 310, 3) := dk_180 1 54 (dk_at dksX1_work_3 11 rfl rfl)
theorem dX1_work_86 : decode cX1_work 86 = .ok (.ireturn, 1) := dk_172 (dk_at dksX1_work_3 14 rfl rfl)
theorem dX1_work_87 : decode cX1_work 87 = .ok (.aload_n 3, 1) := dk_45 (dk_at dksX1_work_3 15 rfl rfl)
theorem dX1_work_88 : decode cX1_work 88 = .ok (.getfield 239, 3) := dk_180 0 239 (dk_at dksX1_work_3 16 rfl rfl)
theorem dX1_work_91 : decode cX1_work 91 = .ok (.invokevirtual 243, 3) := dk_182 0 243 (dk_at dksX1_work_3 19 rfl rfl)
theorem dX1_work_94 : decode cX1_work 94 = .ok (.ireturn, 1) := dk_172 (dk_at dksX1_work_3 22 rfl rfl)
theorem dX1_work_95 : decode cX1_work 95 = .ok (.aload_n 0, 1) := dk_42 (dk_at dksX1_work_3 23 rfl rfl)
theorem dX1_work_96 : decode cX1_work 96 = .ok (.getfield 31, 3) := dk_180 0 31 (dk_at dksX1_work_4 0 rfl rfl)
theorem dX1_work_99 : decode cX1_work 99 = .ok (.aload_n 0, 1) := dk_42 (dk_at dksX1_work_4 3 rfl rfl)
theorem dX1_work_100 : decode cX1_work 100 = .ok (.getfield 31, 3) := dk_180 0 31 (dk_at dksX1_work_4 4 rfl rfl)
theorem dX1_work_103 : decode cX1_work 103 = .ok (.iload_n 1, 1) := dk_27 (dk_at dksX1_work_4 7 rfl rfl)
theorem dX1_work_104 : decode cX1_work 104 = .ok (.invokevirtual 313, 3) := dk_182 1 57 (dk_at dksX1_work_4 8 rfl rfl)
theorem dX1_work_107 : decode cX1_work 107 = .ok (.invokevirtual 252, 3) := dk_182 0 252 (dk_at dksX1_work_4 11 rfl rfl)
theorem dX1_work_110 : decode cX1_work 110 = .ok (.ireturn, 1) := dk_172 (dk_at dksX1_work_4 14 rfl rfl)
theorem dX1_work_111 : decode cX1_work 111 = .ok (.new 1, 3) := dk_187 0 1 (dk_at dksX1_work_4 15 rfl rfl)
theorem dX1_work_114 : decode cX1_work 114 = .ok (.dup, 1) := dk_89 (dk_at dksX1_work_4 18 rfl rfl)
theorem dX1_work_115 : decode cX1_work 115 = .ok (.invokespecial 3, 3) := dk_183 0 3 (dk_at dksX1_work_4 19 rfl rfl)
theorem dX1_work_118 : decode cX1_work 118 = .ok (.athrow, 1) := dk_191 (dk_at dksX1_work_4 22 rfl rfl)
abbrev cX1_links : ByteArray := prog_1_method_41_code
def yX1_links : MethodName := ⟨RX1, "links", "(II)I"⟩
def dkwX1_links_1 : List UInt8 := [184, 0, 192, 184, 0, 195, 42, 180, 0, 31, 27, 28, 182, 1, 60, 172]
abbrev dktX1_links_1 : List UInt8 := dkwX1_links_1 ++ []
def dkwX1_links_0 : List UInt8 := [42, 27, 182, 0, 148, 78, 42, 28, 182, 0, 134, 58, 4, 42, 180, 0, 31, 27, 182, 1, 57, 28]
abbrev dktX1_links_0 : List UInt8 := dkwX1_links_0 ++ dktX1_links_1
theorem dksX1_links_0 : cX1_links.data.toList.drop 0 = dktX1_links_0 := by decide +kernel
theorem dksX1_links_1 : cX1_links.data.toList.drop 22 = dktX1_links_1 := dk_seg dksX1_links_0 22 rfl rfl
theorem dX1_links_0 : decode cX1_links 0 = .ok (.aload_n 0, 1) := dk_42 (dk_at dksX1_links_0 0 rfl rfl)
theorem dX1_links_1 : decode cX1_links 1 = .ok (.iload_n 1, 1) := dk_27 (dk_at dksX1_links_0 1 rfl rfl)
theorem dX1_links_2 : decode cX1_links 2 = .ok (.invokevirtual 148, 3) := dk_182 0 148 (dk_at dksX1_links_0 2 rfl rfl)
theorem dX1_links_5 : decode cX1_links 5 = .ok (.astore_n 3, 1) := dk_78 (dk_at dksX1_links_0 5 rfl rfl)
theorem dX1_links_6 : decode cX1_links 6 = .ok (.aload_n 0, 1) := dk_42 (dk_at dksX1_links_0 6 rfl rfl)
theorem dX1_links_7 : decode cX1_links 7 = .ok (.iload_n 2, 1) := dk_28 (dk_at dksX1_links_0 7 rfl rfl)
theorem dX1_links_8 : decode cX1_links 8 = .ok (.invokevirtual 134, 3) := dk_182 0 134 (dk_at dksX1_links_0 8 rfl rfl)
theorem dX1_links_11 : decode cX1_links 11 = .ok (.astore 4, 2) := dk_58 4 (dk_at dksX1_links_0 11 rfl rfl)
theorem dX1_links_13 : decode cX1_links 13 = .ok (.aload_n 0, 1) := dk_42 (dk_at dksX1_links_0 13 rfl rfl)
theorem dX1_links_14 : decode cX1_links 14 = .ok (.getfield 31, 3) := dk_180 0 31 (dk_at dksX1_links_0 14 rfl rfl)
theorem dX1_links_17 : decode cX1_links 17 = .ok (.iload_n 1, 1) := dk_27 (dk_at dksX1_links_0 17 rfl rfl)
theorem dX1_links_18 : decode cX1_links 18 = .ok (.invokevirtual 313, 3) := dk_182 1 57 (dk_at dksX1_links_0 18 rfl rfl)
theorem dX1_links_21 : decode cX1_links 21 = .ok (.iload_n 2, 1) := dk_28 (dk_at dksX1_links_0 21 rfl rfl)
theorem dX1_links_22 : decode cX1_links 22 = .ok (.invokestatic 192, 3) := dk_184 0 192 (dk_at dksX1_links_1 0 rfl rfl)
theorem dX1_links_25 : decode cX1_links 25 = .ok (.invokestatic 195, 3) := dk_184 0 195 (dk_at dksX1_links_1 3 rfl rfl)
theorem dX1_links_28 : decode cX1_links 28 = .ok (.aload_n 0, 1) := dk_42 (dk_at dksX1_links_1 6 rfl rfl)
theorem dX1_links_29 : decode cX1_links 29 = .ok (.getfield 31, 3) := dk_180 0 31 (dk_at dksX1_links_1 7 rfl rfl)
theorem dX1_links_32 : decode cX1_links 32 = .ok (.iload_n 1, 1) := dk_27 (dk_at dksX1_links_1 10 rfl rfl)
theorem dX1_links_33 : decode cX1_links 33 = .ok (.iload_n 2, 1) := dk_28 (dk_at dksX1_links_1 11 rfl rfl)
theorem dX1_links_34 : decode cX1_links 34 = .ok (.invokevirtual 316, 3) := dk_182 1 60 (dk_at dksX1_links_1 12 rfl rfl)
theorem dX1_links_37 : decode cX1_links 37 = .ok (.ireturn, 1) := dk_172 (dk_at dksX1_links_1 15 rfl rfl)
abbrev cX1_meanSize : ByteArray := prog_1_method_42_code
def yX1_meanSize : MethodName := ⟨RX1, "meanSize", "(I)D"⟩
def dkwX1_meanSize_1 : List UInt8 := [184, 1, 62, 42, 180, 0, 31, 29, 182, 0, 252, 135, 29, 184, 1, 65, 135, 111, 175]
abbrev dktX1_meanSize_1 : List UInt8 := dkwX1_meanSize_1 ++ []
def dkwX1_meanSize_0 : List UInt8 := [42, 27, 182, 0, 148, 77, 42, 180, 0, 31, 27, 182, 1, 57, 62, 29, 153, 0, 7, 4, 167, 0, 4, 3]
abbrev dktX1_meanSize_0 : List UInt8 := dkwX1_meanSize_0 ++ dktX1_meanSize_1
theorem dksX1_meanSize_0 : cX1_meanSize.data.toList.drop 0 = dktX1_meanSize_0 := by decide +kernel
theorem dksX1_meanSize_1 : cX1_meanSize.data.toList.drop 24 = dktX1_meanSize_1 := dk_seg dksX1_meanSize_0 24 rfl rfl
theorem dX1_meanSize_0 : decode cX1_meanSize 0 = .ok (.aload_n 0, 1) := dk_42 (dk_at dksX1_meanSize_0 0 rfl rfl)
theorem dX1_meanSize_1 : decode cX1_meanSize 1 = .ok (.iload_n 1, 1) := dk_27 (dk_at dksX1_meanSize_0 1 rfl rfl)
theorem dX1_meanSize_2 : decode cX1_meanSize 2 = .ok (.invokevirtual 148, 3) := dk_182 0 148 (dk_at dksX1_meanSize_0 2 rfl rfl)
theorem dX1_meanSize_5 : decode cX1_meanSize 5 = .ok (.astore_n 2, 1) := dk_77 (dk_at dksX1_meanSize_0 5 rfl rfl)
theorem dX1_meanSize_6 : decode cX1_meanSize 6 = .ok (.aload_n 0, 1) := dk_42 (dk_at dksX1_meanSize_0 6 rfl rfl)
theorem dX1_meanSize_7 : decode cX1_meanSize 7 = .ok (.getfield 31, 3) := dk_180 0 31 (dk_at dksX1_meanSize_0 7 rfl rfl)
theorem dX1_meanSize_10 : decode cX1_meanSize 10 = .ok (.iload_n 1, 1) := dk_27 (dk_at dksX1_meanSize_0 10 rfl rfl)
theorem dX1_meanSize_11 : decode cX1_meanSize 11 = .ok (.invokevirtual 313, 3) := dk_182 1 57 (dk_at dksX1_meanSize_0 11 rfl rfl)
theorem dX1_meanSize_14 : decode cX1_meanSize 14 = .ok (.istore_n 3, 1) := dk_62 (dk_at dksX1_meanSize_0 14 rfl rfl)
theorem dX1_meanSize_15 : decode cX1_meanSize 15 = .ok (.iload_n 3, 1) := dk_29 (dk_at dksX1_meanSize_0 15 rfl rfl)
theorem dX1_meanSize_16 : decode cX1_meanSize 16 = .ok (.ifCond .eq 7, 3) := dk_153 0 7 (dk_at dksX1_meanSize_0 16 rfl rfl)
theorem dX1_meanSize_19 : decode cX1_meanSize 19 = .ok (.iconst 1, 1) := dk_4 (dk_at dksX1_meanSize_0 19 rfl rfl)
theorem dX1_meanSize_20 : decode cX1_meanSize 20 = .ok (.goto 4, 3) := dk_167 0 4 (dk_at dksX1_meanSize_0 20 rfl rfl)
theorem dX1_meanSize_23 : decode cX1_meanSize 23 = .ok (.iconst 0, 1) := dk_3 (dk_at dksX1_meanSize_0 23 rfl rfl)
theorem dX1_meanSize_24 : decode cX1_meanSize 24 = .ok (.invokestatic 318, 3) := dk_184 1 62 (dk_at dksX1_meanSize_1 0 rfl rfl)
theorem dX1_meanSize_27 : decode cX1_meanSize 27 = .ok (.aload_n 0, 1) := dk_42 (dk_at dksX1_meanSize_1 3 rfl rfl)
theorem dX1_meanSize_28 : decode cX1_meanSize 28 = .ok (.getfield 31, 3) := dk_180 0 31 (dk_at dksX1_meanSize_1 4 rfl rfl)
theorem dX1_meanSize_31 : decode cX1_meanSize 31 = .ok (.iload_n 3, 1) := dk_29 (dk_at dksX1_meanSize_1 7 rfl rfl)
theorem dX1_meanSize_32 : decode cX1_meanSize 32 = .ok (.invokevirtual 252, 3) := dk_182 0 252 (dk_at dksX1_meanSize_1 8 rfl rfl)
theorem dX1_meanSize_35 : decode cX1_meanSize 35 = .ok (.i2d, 1) := dk_135 (dk_at dksX1_meanSize_1 11 rfl rfl)
theorem dX1_meanSize_36 : decode cX1_meanSize 36 = .ok (.iload_n 3, 1) := dk_29 (dk_at dksX1_meanSize_1 12 rfl rfl)
theorem dX1_meanSize_37 : decode cX1_meanSize 37 = .ok (.invokestatic 321, 3) := dk_184 1 65 (dk_at dksX1_meanSize_1 13 rfl rfl)
theorem dX1_meanSize_40 : decode cX1_meanSize 40 = .ok (.i2d, 1) := dk_135 (dk_at dksX1_meanSize_1 16 rfl rfl)
theorem dX1_meanSize_41 : decode cX1_meanSize 41 = .ok (.ddiv, 1) := dk_111 (dk_at dksX1_meanSize_1 17 rfl rfl)
theorem dX1_meanSize_42 : decode cX1_meanSize 42 = .ok (.dreturn, 1) := dk_175 (dk_at dksX1_meanSize_1 18 rfl rfl)
abbrev cX1_checkNumbers : ByteArray := prog_1_method_6_code
def yX1_checkNumbers : MethodName := ⟨RX1, "checkNumbers", "(Z)V"⟩
def dkwX1_checkNumbers_0 : List UInt8 := [26, 154, 0, 11, 187, 0, 16, 89, 183, 0, 18, 191, 177]
abbrev dktX1_checkNumbers_0 : List UInt8 := dkwX1_checkNumbers_0 ++ []
theorem dksX1_checkNumbers_0 : cX1_checkNumbers.data.toList.drop 0 = dktX1_checkNumbers_0 := by decide +kernel
theorem dX1_checkNumbers_0 : decode cX1_checkNumbers 0 = .ok (.iload_n 0, 1) := dk_26 (dk_at dksX1_checkNumbers_0 0 rfl rfl)
theorem dX1_checkNumbers_1 : decode cX1_checkNumbers 1 = .ok (.ifCond .ne 11, 3) := dk_154 0 11 (dk_at dksX1_checkNumbers_0 1 rfl rfl)
theorem dX1_checkNumbers_4 : decode cX1_checkNumbers 4 = .ok (.new 16, 3) := dk_187 0 16 (dk_at dksX1_checkNumbers_0 4 rfl rfl)
theorem dX1_checkNumbers_7 : decode cX1_checkNumbers 7 = .ok (.dup, 1) := dk_89 (dk_at dksX1_checkNumbers_0 7 rfl rfl)
theorem dX1_checkNumbers_8 : decode cX1_checkNumbers 8 = .ok (.invokespecial 18, 3) := dk_183 0 18 (dk_at dksX1_checkNumbers_0 8 rfl rfl)
theorem dX1_checkNumbers_11 : decode cX1_checkNumbers 11 = .ok (.athrow, 1) := dk_191 (dk_at dksX1_checkNumbers_0 11 rfl rfl)
theorem dX1_checkNumbers_12 : decode cX1_checkNumbers 12 = .ok (.return_, 1) := dk_177 (dk_at dksX1_checkNumbers_0 12 rfl rfl)
abbrev cX1_share : ByteArray := prog_1_method_43_code
def yX1_share : MethodName := ⟨RX1, "share", "(I)F"⟩
def dkwX1_share_4 : List UInt8 := [180, 0, 31, 180, 0, 94, 182, 0, 74, 134, 110, 174]
abbrev dktX1_share_4 : List UInt8 := dkwX1_share_4 ++ []
def dkwX1_share_3 : List UInt8 := [180, 1, 11, 27, 184, 0, 192, 153, 0, 7, 4, 167, 0, 4, 3, 96, 61, 167, 255, 216, 28, 134, 42]
abbrev dktX1_share_3 : List UInt8 := dkwX1_share_3 ++ dktX1_share_4
def dkwX1_share_2 : List UInt8 := [45, 185, 1, 73, 1, 0, 153, 0, 37, 45, 185, 1, 79, 1, 0, 192, 0, 97, 58, 4, 28, 25, 4]
abbrev dktX1_share_2 : List UInt8 := dkwX1_share_2 ++ dktX1_share_3
def dkwX1_share_1 : List UInt8 := [158, 0, 7, 4, 167, 0, 4, 3, 184, 1, 62, 3, 61, 42, 180, 0, 31, 180, 0, 94, 182, 1, 69, 78]
abbrev dktX1_share_1 : List UInt8 := dkwX1_share_1 ++ dktX1_share_2
def dkwX1_share_0 : List UInt8 := [27, 133, 9, 20, 0, 114, 184, 0, 86, 184, 0, 116, 42, 180, 0, 31, 180, 0, 94, 182, 0, 74]
abbrev dktX1_share_0 : List UInt8 := dkwX1_share_0 ++ dktX1_share_1
theorem dksX1_share_0 : cX1_share.data.toList.drop 0 = dktX1_share_0 := by decide +kernel
theorem dksX1_share_1 : cX1_share.data.toList.drop 22 = dktX1_share_1 := dk_seg dksX1_share_0 22 rfl rfl
theorem dksX1_share_2 : cX1_share.data.toList.drop 46 = dktX1_share_2 := dk_seg dksX1_share_1 24 rfl rfl
theorem dksX1_share_3 : cX1_share.data.toList.drop 69 = dktX1_share_3 := dk_seg dksX1_share_2 23 rfl rfl
theorem dksX1_share_4 : cX1_share.data.toList.drop 92 = dktX1_share_4 := dk_seg dksX1_share_3 23 rfl rfl
theorem dX1_share_0 : decode cX1_share 0 = .ok (.iload_n 1, 1) := dk_27 (dk_at dksX1_share_0 0 rfl rfl)
theorem dX1_share_1 : decode cX1_share 1 = .ok (.i2l, 1) := dk_133 (dk_at dksX1_share_0 1 rfl rfl)
theorem dX1_share_2 : decode cX1_share 2 = .ok (.lconst 0, 1) := dk_9 (dk_at dksX1_share_0 2 rfl rfl)
theorem dX1_share_3 : decode cX1_share 3 = .ok (.ldc2_w 114, 3) := dk_20 0 114 (dk_at dksX1_share_0 3 rfl rfl)
theorem dX1_share_6 : decode cX1_share 6 = .ok (.invokestatic 86, 3) := dk_184 0 86 (dk_at dksX1_share_0 6 rfl rfl)
theorem dX1_share_9 : decode cX1_share 9 = .ok (.invokestatic 116, 3) := dk_184 0 116 (dk_at dksX1_share_0 9 rfl rfl)
theorem dX1_share_12 : decode cX1_share 12 = .ok (.aload_n 0, 1) := dk_42 (dk_at dksX1_share_0 12 rfl rfl)
theorem dX1_share_13 : decode cX1_share 13 = .ok (.getfield 31, 3) := dk_180 0 31 (dk_at dksX1_share_0 13 rfl rfl)
theorem dX1_share_16 : decode cX1_share 16 = .ok (.getfield 94, 3) := dk_180 0 94 (dk_at dksX1_share_0 16 rfl rfl)
theorem dX1_share_19 : decode cX1_share 19 = .ok (.invokevirtual 74, 3) := dk_182 0 74 (dk_at dksX1_share_0 19 rfl rfl)
theorem dX1_share_22 : decode cX1_share 22 = .ok (.ifCond .le 7, 3) := dk_158 0 7 (dk_at dksX1_share_1 0 rfl rfl)
theorem dX1_share_25 : decode cX1_share 25 = .ok (.iconst 1, 1) := dk_4 (dk_at dksX1_share_1 3 rfl rfl)
theorem dX1_share_26 : decode cX1_share 26 = .ok (.goto 4, 3) := dk_167 0 4 (dk_at dksX1_share_1 4 rfl rfl)
theorem dX1_share_29 : decode cX1_share 29 = .ok (.iconst 0, 1) := dk_3 (dk_at dksX1_share_1 7 rfl rfl)
theorem dX1_share_30 : decode cX1_share 30 = .ok (.invokestatic 318, 3) := dk_184 1 62 (dk_at dksX1_share_1 8 rfl rfl)
theorem dX1_share_33 : decode cX1_share 33 = .ok (.iconst 0, 1) := dk_3 (dk_at dksX1_share_1 11 rfl rfl)
theorem dX1_share_34 : decode cX1_share 34 = .ok (.istore_n 2, 1) := dk_61 (dk_at dksX1_share_1 12 rfl rfl)
theorem dX1_share_35 : decode cX1_share 35 = .ok (.aload_n 0, 1) := dk_42 (dk_at dksX1_share_1 13 rfl rfl)
theorem dX1_share_36 : decode cX1_share 36 = .ok (.getfield 31, 3) := dk_180 0 31 (dk_at dksX1_share_1 14 rfl rfl)
theorem dX1_share_39 : decode cX1_share 39 = .ok (.getfield 94, 3) := dk_180 0 94 (dk_at dksX1_share_1 17 rfl rfl)
theorem dX1_share_42 : decode cX1_share 42 = .ok (.invokevirtual 325, 3) := dk_182 1 69 (dk_at dksX1_share_1 20 rfl rfl)
theorem dX1_share_45 : decode cX1_share 45 = .ok (.astore_n 3, 1) := dk_78 (dk_at dksX1_share_1 23 rfl rfl)
theorem dX1_share_46 : decode cX1_share 46 = .ok (.aload_n 3, 1) := dk_45 (dk_at dksX1_share_2 0 rfl rfl)
theorem dX1_share_47 : decode cX1_share 47 = .ok (.invokeinterface 329 1, 5) := by decide +kernel
theorem dX1_share_52 : decode cX1_share 52 = .ok (.ifCond .eq 37, 3) := dk_153 0 37 (dk_at dksX1_share_2 6 rfl rfl)
theorem dX1_share_55 : decode cX1_share 55 = .ok (.aload_n 3, 1) := dk_45 (dk_at dksX1_share_2 9 rfl rfl)
theorem dX1_share_56 : decode cX1_share 56 = .ok (.invokeinterface 335 1, 5) := by decide +kernel
theorem dX1_share_61 : decode cX1_share 61 = .ok (.checkcast 97, 3) := dk_192 0 97 (dk_at dksX1_share_2 15 rfl rfl)
theorem dX1_share_64 : decode cX1_share 64 = .ok (.astore 4, 2) := dk_58 4 (dk_at dksX1_share_2 18 rfl rfl)
theorem dX1_share_66 : decode cX1_share 66 = .ok (.iload_n 2, 1) := dk_28 (dk_at dksX1_share_2 20 rfl rfl)
theorem dX1_share_67 : decode cX1_share 67 = .ok (.aload 4, 2) := dk_25 4 (dk_at dksX1_share_2 21 rfl rfl)
theorem dX1_share_69 : decode cX1_share 69 = .ok (.getfield 267, 3) := dk_180 1 11 (dk_at dksX1_share_3 0 rfl rfl)
theorem dX1_share_72 : decode cX1_share 72 = .ok (.iload_n 1, 1) := dk_27 (dk_at dksX1_share_3 3 rfl rfl)
theorem dX1_share_73 : decode cX1_share 73 = .ok (.invokestatic 192, 3) := dk_184 0 192 (dk_at dksX1_share_3 4 rfl rfl)
theorem dX1_share_76 : decode cX1_share 76 = .ok (.ifCond .eq 7, 3) := dk_153 0 7 (dk_at dksX1_share_3 7 rfl rfl)
theorem dX1_share_79 : decode cX1_share 79 = .ok (.iconst 1, 1) := dk_4 (dk_at dksX1_share_3 10 rfl rfl)
theorem dX1_share_80 : decode cX1_share 80 = .ok (.goto 4, 3) := dk_167 0 4 (dk_at dksX1_share_3 11 rfl rfl)
theorem dX1_share_83 : decode cX1_share 83 = .ok (.iconst 0, 1) := dk_3 (dk_at dksX1_share_3 14 rfl rfl)
theorem dX1_share_84 : decode cX1_share 84 = .ok (.iadd, 1) := dk_96 (dk_at dksX1_share_3 15 rfl rfl)
theorem dX1_share_85 : decode cX1_share 85 = .ok (.istore_n 2, 1) := dk_61 (dk_at dksX1_share_3 16 rfl rfl)
theorem dX1_share_86 : decode cX1_share 86 = .ok (.goto (-40), 3) := dk_167 255 216 (dk_at dksX1_share_3 17 rfl rfl)
theorem dX1_share_89 : decode cX1_share 89 = .ok (.iload_n 2, 1) := dk_28 (dk_at dksX1_share_3 20 rfl rfl)
theorem dX1_share_90 : decode cX1_share 90 = .ok (.i2f, 1) := dk_134 (dk_at dksX1_share_3 21 rfl rfl)
theorem dX1_share_91 : decode cX1_share 91 = .ok (.aload_n 0, 1) := dk_42 (dk_at dksX1_share_3 22 rfl rfl)
theorem dX1_share_92 : decode cX1_share 92 = .ok (.getfield 31, 3) := dk_180 0 31 (dk_at dksX1_share_4 0 rfl rfl)
theorem dX1_share_95 : decode cX1_share 95 = .ok (.getfield 94, 3) := dk_180 0 94 (dk_at dksX1_share_4 3 rfl rfl)
theorem dX1_share_98 : decode cX1_share 98 = .ok (.invokevirtual 74, 3) := dk_182 0 74 (dk_at dksX1_share_4 6 rfl rfl)
theorem dX1_share_101 : decode cX1_share 101 = .ok (.i2f, 1) := dk_134 (dk_at dksX1_share_4 9 rfl rfl)
theorem dX1_share_102 : decode cX1_share 102 = .ok (.fdiv, 1) := dk_110 (dk_at dksX1_share_4 10 rfl rfl)
theorem dX1_share_103 : decode cX1_share 103 = .ok (.freturn, 1) := dk_174 (dk_at dksX1_share_4 11 rfl rfl)
abbrev cX1_store : ByteArray := prog_1_method_46_code
def yX1_store : MethodName := ⟨RX1, "store", "(I)I"⟩
def dkwX1_store_2 : List UInt8 := [42, 180, 0, 44, 27, 45, 83, 45, 190, 172]
abbrev dktX1_store_2 : List UInt8 := dkwX1_store_2 ++ []
def dkwX1_store_1 : List UInt8 := [45, 190, 162, 0, 22, 45, 21, 4, 42, 180, 0, 31, 21, 4, 182, 1, 89, 80, 132, 4, 1, 167, 255, 233]
abbrev dktX1_store_1 : List UInt8 := dkwX1_store_1 ++ dktX1_store_2
def dkwX1_store_0 : List UInt8 := [42, 27, 182, 1, 85, 77, 42, 180, 0, 31, 180, 0, 142, 182, 0, 74, 188, 11, 78, 3, 54, 4, 21, 4]
abbrev dktX1_store_0 : List UInt8 := dkwX1_store_0 ++ dktX1_store_1
theorem dksX1_store_0 : cX1_store.data.toList.drop 0 = dktX1_store_0 := by decide +kernel
theorem dksX1_store_1 : cX1_store.data.toList.drop 24 = dktX1_store_1 := dk_seg dksX1_store_0 24 rfl rfl
theorem dksX1_store_2 : cX1_store.data.toList.drop 48 = dktX1_store_2 := dk_seg dksX1_store_1 24 rfl rfl
theorem dX1_store_0 : decode cX1_store 0 = .ok (.aload_n 0, 1) := dk_42 (dk_at dksX1_store_0 0 rfl rfl)
theorem dX1_store_1 : decode cX1_store 1 = .ok (.iload_n 1, 1) := dk_27 (dk_at dksX1_store_0 1 rfl rfl)
theorem dX1_store_2 : decode cX1_store 2 = .ok (.invokevirtual 341, 3) := dk_182 1 85 (dk_at dksX1_store_0 2 rfl rfl)
theorem dX1_store_5 : decode cX1_store 5 = .ok (.astore_n 2, 1) := dk_77 (dk_at dksX1_store_0 5 rfl rfl)
theorem dX1_store_6 : decode cX1_store 6 = .ok (.aload_n 0, 1) := dk_42 (dk_at dksX1_store_0 6 rfl rfl)
theorem dX1_store_7 : decode cX1_store 7 = .ok (.getfield 31, 3) := dk_180 0 31 (dk_at dksX1_store_0 7 rfl rfl)
theorem dX1_store_10 : decode cX1_store 10 = .ok (.getfield 142, 3) := dk_180 0 142 (dk_at dksX1_store_0 10 rfl rfl)
theorem dX1_store_13 : decode cX1_store 13 = .ok (.invokevirtual 74, 3) := dk_182 0 74 (dk_at dksX1_store_0 13 rfl rfl)
theorem dX1_store_16 : decode cX1_store 16 = .ok (.newarray .long, 2) := dk_188_11 (dk_at dksX1_store_0 16 rfl rfl)
theorem dX1_store_18 : decode cX1_store 18 = .ok (.astore_n 3, 1) := dk_78 (dk_at dksX1_store_0 18 rfl rfl)
theorem dX1_store_19 : decode cX1_store 19 = .ok (.iconst 0, 1) := dk_3 (dk_at dksX1_store_0 19 rfl rfl)
theorem dX1_store_20 : decode cX1_store 20 = .ok (.istore 4, 2) := dk_54 4 (dk_at dksX1_store_0 20 rfl rfl)
theorem dX1_store_22 : decode cX1_store 22 = .ok (.iload 4, 2) := dk_21 4 (dk_at dksX1_store_0 22 rfl rfl)
theorem dX1_store_24 : decode cX1_store 24 = .ok (.aload_n 3, 1) := dk_45 (dk_at dksX1_store_1 0 rfl rfl)
theorem dX1_store_25 : decode cX1_store 25 = .ok (.arraylength, 1) := dk_190 (dk_at dksX1_store_1 1 rfl rfl)
theorem dX1_store_26 : decode cX1_store 26 = .ok (.if_icmp .ge 22, 3) := dk_162 0 22 (dk_at dksX1_store_1 2 rfl rfl)
theorem dX1_store_29 : decode cX1_store 29 = .ok (.aload_n 3, 1) := dk_45 (dk_at dksX1_store_1 5 rfl rfl)
theorem dX1_store_30 : decode cX1_store 30 = .ok (.iload 4, 2) := dk_21 4 (dk_at dksX1_store_1 6 rfl rfl)
theorem dX1_store_32 : decode cX1_store 32 = .ok (.aload_n 0, 1) := dk_42 (dk_at dksX1_store_1 8 rfl rfl)
theorem dX1_store_33 : decode cX1_store 33 = .ok (.getfield 31, 3) := dk_180 0 31 (dk_at dksX1_store_1 9 rfl rfl)
theorem dX1_store_36 : decode cX1_store 36 = .ok (.iload 4, 2) := dk_21 4 (dk_at dksX1_store_1 12 rfl rfl)
theorem dX1_store_38 : decode cX1_store 38 = .ok (.invokevirtual 345, 3) := dk_182 1 89 (dk_at dksX1_store_1 14 rfl rfl)
theorem dX1_store_41 : decode cX1_store 41 = .ok (.lastore, 1) := dk_80 (dk_at dksX1_store_1 17 rfl rfl)
theorem dX1_store_42 : decode cX1_store 42 = .ok (.iinc 4 1, 3) := dk_132 4 1 (dk_at dksX1_store_1 18 rfl rfl)
theorem dX1_store_45 : decode cX1_store 45 = .ok (.goto (-23), 3) := dk_167 255 233 (dk_at dksX1_store_1 21 rfl rfl)
theorem dX1_store_48 : decode cX1_store 48 = .ok (.aload_n 0, 1) := dk_42 (dk_at dksX1_store_2 0 rfl rfl)
theorem dX1_store_49 : decode cX1_store 49 = .ok (.getfield 44, 3) := dk_180 0 44 (dk_at dksX1_store_2 1 rfl rfl)
theorem dX1_store_52 : decode cX1_store 52 = .ok (.iload_n 1, 1) := dk_27 (dk_at dksX1_store_2 4 rfl rfl)
theorem dX1_store_53 : decode cX1_store 53 = .ok (.aload_n 3, 1) := dk_45 (dk_at dksX1_store_2 5 rfl rfl)
theorem dX1_store_54 : decode cX1_store 54 = .ok (.aastore, 1) := dk_83 (dk_at dksX1_store_2 6 rfl rfl)
theorem dX1_store_55 : decode cX1_store 55 = .ok (.aload_n 3, 1) := dk_45 (dk_at dksX1_store_2 7 rfl rfl)
theorem dX1_store_56 : decode cX1_store 56 = .ok (.arraylength, 1) := dk_190 (dk_at dksX1_store_2 8 rfl rfl)
theorem dX1_store_57 : decode cX1_store 57 = .ok (.ireturn, 1) := dk_172 (dk_at dksX1_store_2 9 rfl rfl)
abbrev cX1_rowAt : ByteArray := prog_1_method_45_code
def yX1_rowAt : MethodName := ⟨RX1, "rowAt", "(I)[J"⟩
def dkwX1_rowAt_0 : List UInt8 := [42, 180, 0, 44, 27, 50, 176, 77, 187, 0, 7, 89, 183, 0, 9, 191]
abbrev dktX1_rowAt_0 : List UInt8 := dkwX1_rowAt_0 ++ []
theorem dksX1_rowAt_0 : cX1_rowAt.data.toList.drop 0 = dktX1_rowAt_0 := by decide +kernel
theorem dX1_rowAt_0 : decode cX1_rowAt 0 = .ok (.aload_n 0, 1) := dk_42 (dk_at dksX1_rowAt_0 0 rfl rfl)
theorem dX1_rowAt_1 : decode cX1_rowAt 1 = .ok (.getfield 44, 3) := dk_180 0 44 (dk_at dksX1_rowAt_0 1 rfl rfl)
theorem dX1_rowAt_4 : decode cX1_rowAt 4 = .ok (.iload_n 1, 1) := dk_27 (dk_at dksX1_rowAt_0 4 rfl rfl)
theorem dX1_rowAt_5 : decode cX1_rowAt 5 = .ok (.aaload, 1) := dk_50 (dk_at dksX1_rowAt_0 5 rfl rfl)
theorem dX1_rowAt_6 : decode cX1_rowAt 6 = .ok (.areturn, 1) := dk_176 (dk_at dksX1_rowAt_0 6 rfl rfl)
theorem dX1_rowAt_7 : decode cX1_rowAt 7 = .ok (.astore_n 2, 1) := dk_77 (dk_at dksX1_rowAt_0 7 rfl rfl)
theorem dX1_rowAt_8 : decode cX1_rowAt 8 = .ok (.new 7, 3) := dk_187 0 7 (dk_at dksX1_rowAt_0 8 rfl rfl)
theorem dX1_rowAt_11 : decode cX1_rowAt 11 = .ok (.dup, 1) := dk_89 (dk_at dksX1_rowAt_0 11 rfl rfl)
theorem dX1_rowAt_12 : decode cX1_rowAt 12 = .ok (.invokespecial 9, 3) := dk_183 0 9 (dk_at dksX1_rowAt_0 12 rfl rfl)
theorem dX1_rowAt_15 : decode cX1_rowAt 15 = .ok (.athrow, 1) := dk_191 (dk_at dksX1_rowAt_0 15 rfl rfl)
abbrev cX1_mix : ByteArray := prog_1_method_47_code
def yX1_mix : MethodName := ⟨RX1, "mix", "(III)I"⟩
def dkwX1_mix_2 : List UInt8 := [25, 4, 21, 7, 92, 47, 25, 5, 21, 7, 47, 29, 121, 129, 80, 132, 7, 1, 167, 255, 231, 21, 6, 172]
abbrev dktX1_mix_2 : List UInt8 := dkwX1_mix_2 ++ []
def dkwX1_mix_1 : List UInt8 := [184, 0, 21, 25, 4, 190, 25, 5, 190, 184, 1, 95, 54, 6, 3, 54, 7, 21, 7, 21, 6, 162, 0, 24]
abbrev dktX1_mix_1 : List UInt8 := dkwX1_mix_1 ++ dktX1_mix_2
def dkwX1_mix_0 : List UInt8 := [42, 27, 182, 1, 85, 58, 4, 42, 28, 182, 1, 85, 58, 5, 29, 133, 9, 20, 1, 93, 184, 0, 86]
abbrev dktX1_mix_0 : List UInt8 := dkwX1_mix_0 ++ dktX1_mix_1
theorem dksX1_mix_0 : cX1_mix.data.toList.drop 0 = dktX1_mix_0 := by decide +kernel
theorem dksX1_mix_1 : cX1_mix.data.toList.drop 23 = dktX1_mix_1 := dk_seg dksX1_mix_0 23 rfl rfl
theorem dksX1_mix_2 : cX1_mix.data.toList.drop 47 = dktX1_mix_2 := dk_seg dksX1_mix_1 24 rfl rfl
theorem dX1_mix_0 : decode cX1_mix 0 = .ok (.aload_n 0, 1) := dk_42 (dk_at dksX1_mix_0 0 rfl rfl)
theorem dX1_mix_1 : decode cX1_mix 1 = .ok (.iload_n 1, 1) := dk_27 (dk_at dksX1_mix_0 1 rfl rfl)
theorem dX1_mix_2 : decode cX1_mix 2 = .ok (.invokevirtual 341, 3) := dk_182 1 85 (dk_at dksX1_mix_0 2 rfl rfl)
theorem dX1_mix_5 : decode cX1_mix 5 = .ok (.astore 4, 2) := dk_58 4 (dk_at dksX1_mix_0 5 rfl rfl)
theorem dX1_mix_7 : decode cX1_mix 7 = .ok (.aload_n 0, 1) := dk_42 (dk_at dksX1_mix_0 7 rfl rfl)
theorem dX1_mix_8 : decode cX1_mix 8 = .ok (.iload_n 2, 1) := dk_28 (dk_at dksX1_mix_0 8 rfl rfl)
theorem dX1_mix_9 : decode cX1_mix 9 = .ok (.invokevirtual 341, 3) := dk_182 1 85 (dk_at dksX1_mix_0 9 rfl rfl)
theorem dX1_mix_12 : decode cX1_mix 12 = .ok (.astore 5, 2) := dk_58 5 (dk_at dksX1_mix_0 12 rfl rfl)
theorem dX1_mix_14 : decode cX1_mix 14 = .ok (.iload_n 3, 1) := dk_29 (dk_at dksX1_mix_0 14 rfl rfl)
theorem dX1_mix_15 : decode cX1_mix 15 = .ok (.i2l, 1) := dk_133 (dk_at dksX1_mix_0 15 rfl rfl)
theorem dX1_mix_16 : decode cX1_mix 16 = .ok (.lconst 0, 1) := dk_9 (dk_at dksX1_mix_0 16 rfl rfl)
theorem dX1_mix_17 : decode cX1_mix 17 = .ok (.ldc2_w 349, 3) := dk_20 1 93 (dk_at dksX1_mix_0 17 rfl rfl)
theorem dX1_mix_20 : decode cX1_mix 20 = .ok (.invokestatic 86, 3) := dk_184 0 86 (dk_at dksX1_mix_0 20 rfl rfl)
theorem dX1_mix_23 : decode cX1_mix 23 = .ok (.invokestatic 21, 3) := dk_184 0 21 (dk_at dksX1_mix_1 0 rfl rfl)
theorem dX1_mix_26 : decode cX1_mix 26 = .ok (.aload 4, 2) := dk_25 4 (dk_at dksX1_mix_1 3 rfl rfl)
theorem dX1_mix_28 : decode cX1_mix 28 = .ok (.arraylength, 1) := dk_190 (dk_at dksX1_mix_1 5 rfl rfl)
theorem dX1_mix_29 : decode cX1_mix 29 = .ok (.aload 5, 2) := dk_25 5 (dk_at dksX1_mix_1 6 rfl rfl)
theorem dX1_mix_31 : decode cX1_mix 31 = .ok (.arraylength, 1) := dk_190 (dk_at dksX1_mix_1 8 rfl rfl)
theorem dX1_mix_32 : decode cX1_mix 32 = .ok (.invokestatic 351, 3) := dk_184 1 95 (dk_at dksX1_mix_1 9 rfl rfl)
theorem dX1_mix_35 : decode cX1_mix 35 = .ok (.istore 6, 2) := dk_54 6 (dk_at dksX1_mix_1 12 rfl rfl)
theorem dX1_mix_37 : decode cX1_mix 37 = .ok (.iconst 0, 1) := dk_3 (dk_at dksX1_mix_1 14 rfl rfl)
theorem dX1_mix_38 : decode cX1_mix 38 = .ok (.istore 7, 2) := dk_54 7 (dk_at dksX1_mix_1 15 rfl rfl)
theorem dX1_mix_40 : decode cX1_mix 40 = .ok (.iload 7, 2) := dk_21 7 (dk_at dksX1_mix_1 17 rfl rfl)
theorem dX1_mix_42 : decode cX1_mix 42 = .ok (.iload 6, 2) := dk_21 6 (dk_at dksX1_mix_1 19 rfl rfl)
theorem dX1_mix_44 : decode cX1_mix 44 = .ok (.if_icmp .ge 24, 3) := dk_162 0 24 (dk_at dksX1_mix_1 21 rfl rfl)
theorem dX1_mix_47 : decode cX1_mix 47 = .ok (.aload 4, 2) := dk_25 4 (dk_at dksX1_mix_2 0 rfl rfl)
theorem dX1_mix_49 : decode cX1_mix 49 = .ok (.iload 7, 2) := dk_21 7 (dk_at dksX1_mix_2 2 rfl rfl)
theorem dX1_mix_51 : decode cX1_mix 51 = .ok (.dup2, 1) := dk_92 (dk_at dksX1_mix_2 4 rfl rfl)
theorem dX1_mix_52 : decode cX1_mix 52 = .ok (.laload, 1) := dk_47 (dk_at dksX1_mix_2 5 rfl rfl)
theorem dX1_mix_53 : decode cX1_mix 53 = .ok (.aload 5, 2) := dk_25 5 (dk_at dksX1_mix_2 6 rfl rfl)
theorem dX1_mix_55 : decode cX1_mix 55 = .ok (.iload 7, 2) := dk_21 7 (dk_at dksX1_mix_2 8 rfl rfl)
theorem dX1_mix_57 : decode cX1_mix 57 = .ok (.laload, 1) := dk_47 (dk_at dksX1_mix_2 10 rfl rfl)
theorem dX1_mix_58 : decode cX1_mix 58 = .ok (.iload_n 3, 1) := dk_29 (dk_at dksX1_mix_2 11 rfl rfl)
theorem dX1_mix_59 : decode cX1_mix 59 = .ok (.lshl, 1) := dk_121 (dk_at dksX1_mix_2 12 rfl rfl)
theorem dX1_mix_60 : decode cX1_mix 60 = .ok (.lor, 1) := dk_129 (dk_at dksX1_mix_2 13 rfl rfl)
theorem dX1_mix_61 : decode cX1_mix 61 = .ok (.lastore, 1) := dk_80 (dk_at dksX1_mix_2 14 rfl rfl)
theorem dX1_mix_62 : decode cX1_mix 62 = .ok (.iinc 7 1, 3) := dk_132 7 1 (dk_at dksX1_mix_2 15 rfl rfl)
theorem dX1_mix_65 : decode cX1_mix 65 = .ok (.goto (-25), 3) := dk_167 255 231 (dk_at dksX1_mix_2 18 rfl rfl)
theorem dX1_mix_68 : decode cX1_mix 68 = .ok (.iload 6, 2) := dk_21 6 (dk_at dksX1_mix_2 21 rfl rfl)
theorem dX1_mix_70 : decode cX1_mix 70 = .ok (.ireturn, 1) := dk_172 (dk_at dksX1_mix_2 23 rfl rfl)
abbrev cX1_element : ByteArray := prog_1_method_48_code
def yX1_element : MethodName := ⟨RX1, "element", "(II)J"⟩
def dkwX1_element_0 : List UInt8 := [42, 27, 182, 1, 85, 78, 45, 28, 47, 173, 58, 4, 187, 0, 13, 89, 183, 0, 15, 191]
abbrev dktX1_element_0 : List UInt8 := dkwX1_element_0 ++ []
theorem dksX1_element_0 : cX1_element.data.toList.drop 0 = dktX1_element_0 := by decide +kernel
theorem dX1_element_0 : decode cX1_element 0 = .ok (.aload_n 0, 1) := dk_42 (dk_at dksX1_element_0 0 rfl rfl)
theorem dX1_element_1 : decode cX1_element 1 = .ok (.iload_n 1, 1) := dk_27 (dk_at dksX1_element_0 1 rfl rfl)
theorem dX1_element_2 : decode cX1_element 2 = .ok (.invokevirtual 341, 3) := dk_182 1 85 (dk_at dksX1_element_0 2 rfl rfl)
theorem dX1_element_5 : decode cX1_element 5 = .ok (.astore_n 3, 1) := dk_78 (dk_at dksX1_element_0 5 rfl rfl)
theorem dX1_element_6 : decode cX1_element 6 = .ok (.aload_n 3, 1) := dk_45 (dk_at dksX1_element_0 6 rfl rfl)
theorem dX1_element_7 : decode cX1_element 7 = .ok (.iload_n 2, 1) := dk_28 (dk_at dksX1_element_0 7 rfl rfl)
theorem dX1_element_8 : decode cX1_element 8 = .ok (.laload, 1) := dk_47 (dk_at dksX1_element_0 8 rfl rfl)
theorem dX1_element_9 : decode cX1_element 9 = .ok (.lreturn, 1) := dk_173 (dk_at dksX1_element_0 9 rfl rfl)
theorem dX1_element_10 : decode cX1_element 10 = .ok (.astore 4, 2) := dk_58 4 (dk_at dksX1_element_0 10 rfl rfl)
theorem dX1_element_12 : decode cX1_element 12 = .ok (.new 13, 3) := dk_187 0 13 (dk_at dksX1_element_0 12 rfl rfl)
theorem dX1_element_15 : decode cX1_element 15 = .ok (.dup, 1) := dk_89 (dk_at dksX1_element_0 15 rfl rfl)
theorem dX1_element_16 : decode cX1_element 16 = .ok (.invokespecial 15, 3) := dk_183 0 15 (dk_at dksX1_element_0 16 rfl rfl)
theorem dX1_element_19 : decode cX1_element 19 = .ok (.athrow, 1) := dk_191 (dk_at dksX1_element_0 19 rfl rfl)
abbrev cX1_append : ByteArray := prog_1_method_49_code
def yX1_append : MethodName := ⟨RX1, "append", "(I)I"⟩
def dkwX1_append_5 : List UInt8 := [182, 1, 104, 87, 132, 3, 248, 167, 255, 224, 42, 180, 0, 50, 182, 1, 6, 172]
abbrev dktX1_append_5 : List UInt8 := dkwX1_append_5 ++ []
def dkwX1_append_4 : List UInt8 := [155, 0, 34, 27, 29, 124, 17, 0, 255, 126, 54, 4, 21, 4, 153, 0, 14, 42, 180, 0, 50, 21, 4, 146]
abbrev dktX1_append_4 : List UInt8 := dkwX1_append_4 ++ dktX1_append_5
def dkwX1_append_3 : List UInt8 := [182, 1, 6, 28, 96, 16, 60, 163, 0, 7, 4, 167, 0, 4, 3, 184, 0, 234, 16, 24, 62, 29]
abbrev dktX1_append_3 : List UInt8 := dkwX1_append_3 ++ dktX1_append_4
def dkwX1_append_2 : List UInt8 := [21, 4, 154, 0, 7, 3, 167, 0, 4, 4, 96, 61, 132, 3, 248, 167, 255, 199, 42, 180, 0, 50]
abbrev dktX1_append_2 : List UInt8 := dkwX1_append_2 ++ dktX1_append_3
def dkwX1_append_1 : List UInt8 := [21, 4, 133, 20, 1, 100, 20, 1, 102, 184, 0, 86, 153, 0, 7, 4, 167, 0, 4, 3, 184, 0, 21, 28]
abbrev dktX1_append_1 : List UInt8 := dkwX1_append_1 ++ dktX1_append_2
def dkwX1_append_0 : List UInt8 := [3, 61, 16, 24, 62, 29, 155, 0, 59, 27, 29, 124, 17, 0, 255, 126, 54, 4, 21, 4, 153, 0, 18]
abbrev dktX1_append_0 : List UInt8 := dkwX1_append_0 ++ dktX1_append_1
theorem dksX1_append_0 : cX1_append.data.toList.drop 0 = dktX1_append_0 := by decide +kernel
theorem dksX1_append_1 : cX1_append.data.toList.drop 23 = dktX1_append_1 := dk_seg dksX1_append_0 23 rfl rfl
theorem dksX1_append_2 : cX1_append.data.toList.drop 47 = dktX1_append_2 := dk_seg dksX1_append_1 24 rfl rfl
theorem dksX1_append_3 : cX1_append.data.toList.drop 69 = dktX1_append_3 := dk_seg dksX1_append_2 22 rfl rfl
theorem dksX1_append_4 : cX1_append.data.toList.drop 91 = dktX1_append_4 := dk_seg dksX1_append_3 22 rfl rfl
theorem dksX1_append_5 : cX1_append.data.toList.drop 115 = dktX1_append_5 := dk_seg dksX1_append_4 24 rfl rfl
theorem dX1_append_0 : decode cX1_append 0 = .ok (.iconst 0, 1) := dk_3 (dk_at dksX1_append_0 0 rfl rfl)
theorem dX1_append_1 : decode cX1_append 1 = .ok (.istore_n 2, 1) := dk_61 (dk_at dksX1_append_0 1 rfl rfl)
theorem dX1_append_2 : decode cX1_append 2 = .ok (.bipush 24, 2) := dk_16 24 (dk_at dksX1_append_0 2 rfl rfl)
theorem dX1_append_4 : decode cX1_append 4 = .ok (.istore_n 3, 1) := dk_62 (dk_at dksX1_append_0 4 rfl rfl)
theorem dX1_append_5 : decode cX1_append 5 = .ok (.iload_n 3, 1) := dk_29 (dk_at dksX1_append_0 5 rfl rfl)
theorem dX1_append_6 : decode cX1_append 6 = .ok (.ifCond .lt 59, 3) := dk_155 0 59 (dk_at dksX1_append_0 6 rfl rfl)
theorem dX1_append_9 : decode cX1_append 9 = .ok (.iload_n 1, 1) := dk_27 (dk_at dksX1_append_0 9 rfl rfl)
theorem dX1_append_10 : decode cX1_append 10 = .ok (.iload_n 3, 1) := dk_29 (dk_at dksX1_append_0 10 rfl rfl)
theorem dX1_append_11 : decode cX1_append 11 = .ok (.iushr, 1) := dk_124 (dk_at dksX1_append_0 11 rfl rfl)
theorem dX1_append_12 : decode cX1_append 12 = .ok (.sipush 255, 3) := dk_17 0 255 (dk_at dksX1_append_0 12 rfl rfl)
theorem dX1_append_15 : decode cX1_append 15 = .ok (.iand, 1) := dk_126 (dk_at dksX1_append_0 15 rfl rfl)
theorem dX1_append_16 : decode cX1_append 16 = .ok (.istore 4, 2) := dk_54 4 (dk_at dksX1_append_0 16 rfl rfl)
theorem dX1_append_18 : decode cX1_append 18 = .ok (.iload 4, 2) := dk_21 4 (dk_at dksX1_append_0 18 rfl rfl)
theorem dX1_append_20 : decode cX1_append 20 = .ok (.ifCond .eq 18, 3) := dk_153 0 18 (dk_at dksX1_append_0 20 rfl rfl)
theorem dX1_append_23 : decode cX1_append 23 = .ok (.iload 4, 2) := dk_21 4 (dk_at dksX1_append_1 0 rfl rfl)
theorem dX1_append_25 : decode cX1_append 25 = .ok (.i2l, 1) := dk_133 (dk_at dksX1_append_1 2 rfl rfl)
theorem dX1_append_26 : decode cX1_append 26 = .ok (.ldc2_w 356, 3) := dk_20 1 100 (dk_at dksX1_append_1 3 rfl rfl)
theorem dX1_append_29 : decode cX1_append 29 = .ok (.ldc2_w 358, 3) := dk_20 1 102 (dk_at dksX1_append_1 6 rfl rfl)
theorem dX1_append_32 : decode cX1_append 32 = .ok (.invokestatic 86, 3) := dk_184 0 86 (dk_at dksX1_append_1 9 rfl rfl)
theorem dX1_append_35 : decode cX1_append 35 = .ok (.ifCond .eq 7, 3) := dk_153 0 7 (dk_at dksX1_append_1 12 rfl rfl)
theorem dX1_append_38 : decode cX1_append 38 = .ok (.iconst 1, 1) := dk_4 (dk_at dksX1_append_1 15 rfl rfl)
theorem dX1_append_39 : decode cX1_append 39 = .ok (.goto 4, 3) := dk_167 0 4 (dk_at dksX1_append_1 16 rfl rfl)
theorem dX1_append_42 : decode cX1_append 42 = .ok (.iconst 0, 1) := dk_3 (dk_at dksX1_append_1 19 rfl rfl)
theorem dX1_append_43 : decode cX1_append 43 = .ok (.invokestatic 21, 3) := dk_184 0 21 (dk_at dksX1_append_1 20 rfl rfl)
theorem dX1_append_46 : decode cX1_append 46 = .ok (.iload_n 2, 1) := dk_28 (dk_at dksX1_append_1 23 rfl rfl)
theorem dX1_append_47 : decode cX1_append 47 = .ok (.iload 4, 2) := dk_21 4 (dk_at dksX1_append_2 0 rfl rfl)
theorem dX1_append_49 : decode cX1_append 49 = .ok (.ifCond .ne 7, 3) := dk_154 0 7 (dk_at dksX1_append_2 2 rfl rfl)
theorem dX1_append_52 : decode cX1_append 52 = .ok (.iconst 0, 1) := dk_3 (dk_at dksX1_append_2 5 rfl rfl)
theorem dX1_append_53 : decode cX1_append 53 = .ok (.goto 4, 3) := dk_167 0 4 (dk_at dksX1_append_2 6 rfl rfl)
theorem dX1_append_56 : decode cX1_append 56 = .ok (.iconst 1, 1) := dk_4 (dk_at dksX1_append_2 9 rfl rfl)
theorem dX1_append_57 : decode cX1_append 57 = .ok (.iadd, 1) := dk_96 (dk_at dksX1_append_2 10 rfl rfl)
theorem dX1_append_58 : decode cX1_append 58 = .ok (.istore_n 2, 1) := dk_61 (dk_at dksX1_append_2 11 rfl rfl)
theorem dX1_append_59 : decode cX1_append 59 = .ok (.iinc 3 (-8), 3) := dk_132 3 248 (dk_at dksX1_append_2 12 rfl rfl)
theorem dX1_append_62 : decode cX1_append 62 = .ok (.goto (-57), 3) := dk_167 255 199 (dk_at dksX1_append_2 15 rfl rfl)
theorem dX1_append_65 : decode cX1_append 65 = .ok (.aload_n 0, 1) := dk_42 (dk_at dksX1_append_2 18 rfl rfl)
theorem dX1_append_66 : decode cX1_append 66 = .ok (.getfield 50, 3) := dk_180 0 50 (dk_at dksX1_append_2 19 rfl rfl)
theorem dX1_append_69 : decode cX1_append 69 = .ok (.invokevirtual 262, 3) := dk_182 1 6 (dk_at dksX1_append_3 0 rfl rfl)
theorem dX1_append_72 : decode cX1_append 72 = .ok (.iload_n 2, 1) := dk_28 (dk_at dksX1_append_3 3 rfl rfl)
theorem dX1_append_73 : decode cX1_append 73 = .ok (.iadd, 1) := dk_96 (dk_at dksX1_append_3 4 rfl rfl)
theorem dX1_append_74 : decode cX1_append 74 = .ok (.bipush 60, 2) := dk_16 60 (dk_at dksX1_append_3 5 rfl rfl)
theorem dX1_append_76 : decode cX1_append 76 = .ok (.if_icmp .gt 7, 3) := dk_163 0 7 (dk_at dksX1_append_3 7 rfl rfl)
theorem dX1_append_79 : decode cX1_append 79 = .ok (.iconst 1, 1) := dk_4 (dk_at dksX1_append_3 10 rfl rfl)
theorem dX1_append_80 : decode cX1_append 80 = .ok (.goto 4, 3) := dk_167 0 4 (dk_at dksX1_append_3 11 rfl rfl)
theorem dX1_append_83 : decode cX1_append 83 = .ok (.iconst 0, 1) := dk_3 (dk_at dksX1_append_3 14 rfl rfl)
theorem dX1_append_84 : decode cX1_append 84 = .ok (.invokestatic 234, 3) := dk_184 0 234 (dk_at dksX1_append_3 15 rfl rfl)
theorem dX1_append_87 : decode cX1_append 87 = .ok (.bipush 24, 2) := dk_16 24 (dk_at dksX1_append_3 18 rfl rfl)
theorem dX1_append_89 : decode cX1_append 89 = .ok (.istore_n 3, 1) := dk_62 (dk_at dksX1_append_3 20 rfl rfl)
theorem dX1_append_90 : decode cX1_append 90 = .ok (.iload_n 3, 1) := dk_29 (dk_at dksX1_append_3 21 rfl rfl)
theorem dX1_append_91 : decode cX1_append 91 = .ok (.ifCond .lt 34, 3) := dk_155 0 34 (dk_at dksX1_append_4 0 rfl rfl)
theorem dX1_append_94 : decode cX1_append 94 = .ok (.iload_n 1, 1) := dk_27 (dk_at dksX1_append_4 3 rfl rfl)
theorem dX1_append_95 : decode cX1_append 95 = .ok (.iload_n 3, 1) := dk_29 (dk_at dksX1_append_4 4 rfl rfl)
theorem dX1_append_96 : decode cX1_append 96 = .ok (.iushr, 1) := dk_124 (dk_at dksX1_append_4 5 rfl rfl)
theorem dX1_append_97 : decode cX1_append 97 = .ok (.sipush 255, 3) := dk_17 0 255 (dk_at dksX1_append_4 6 rfl rfl)
theorem dX1_append_100 : decode cX1_append 100 = .ok (.iand, 1) := dk_126 (dk_at dksX1_append_4 9 rfl rfl)
theorem dX1_append_101 : decode cX1_append 101 = .ok (.istore 4, 2) := dk_54 4 (dk_at dksX1_append_4 10 rfl rfl)
theorem dX1_append_103 : decode cX1_append 103 = .ok (.iload 4, 2) := dk_21 4 (dk_at dksX1_append_4 12 rfl rfl)
theorem dX1_append_105 : decode cX1_append 105 = .ok (.ifCond .eq 14, 3) := dk_153 0 14 (dk_at dksX1_append_4 14 rfl rfl)
theorem dX1_append_108 : decode cX1_append 108 = .ok (.aload_n 0, 1) := dk_42 (dk_at dksX1_append_4 17 rfl rfl)
theorem dX1_append_109 : decode cX1_append 109 = .ok (.getfield 50, 3) := dk_180 0 50 (dk_at dksX1_append_4 18 rfl rfl)
theorem dX1_append_112 : decode cX1_append 112 = .ok (.iload 4, 2) := dk_21 4 (dk_at dksX1_append_4 21 rfl rfl)
theorem dX1_append_114 : decode cX1_append 114 = .ok (.i2c, 1) := dk_146 (dk_at dksX1_append_4 23 rfl rfl)
theorem dX1_append_115 : decode cX1_append 115 = .ok (.invokevirtual 360, 3) := dk_182 1 104 (dk_at dksX1_append_5 0 rfl rfl)
theorem dX1_append_118 : decode cX1_append 118 = .ok (.pop, 1) := dk_87 (dk_at dksX1_append_5 3 rfl rfl)
theorem dX1_append_119 : decode cX1_append 119 = .ok (.iinc 3 (-8), 3) := dk_132 3 248 (dk_at dksX1_append_5 4 rfl rfl)
theorem dX1_append_122 : decode cX1_append 122 = .ok (.goto (-32), 3) := dk_167 255 224 (dk_at dksX1_append_5 7 rfl rfl)
theorem dX1_append_125 : decode cX1_append 125 = .ok (.aload_n 0, 1) := dk_42 (dk_at dksX1_append_5 10 rfl rfl)
theorem dX1_append_126 : decode cX1_append 126 = .ok (.getfield 50, 3) := dk_180 0 50 (dk_at dksX1_append_5 11 rfl rfl)
theorem dX1_append_129 : decode cX1_append 129 = .ok (.invokevirtual 262, 3) := dk_182 1 6 (dk_at dksX1_append_5 14 rfl rfl)
theorem dX1_append_132 : decode cX1_append 132 = .ok (.ireturn, 1) := dk_172 (dk_at dksX1_append_5 17 rfl rfl)
abbrev cX1_read : ByteArray := prog_1_method_51_code
def yX1_read : MethodName := ⟨RX1, "read", "()I"⟩
def dkwX1_read_4 : List UInt8 := [89, 183, 0, 233, 191, 42, 42, 180, 0, 31, 182, 0, 106, 42, 44, 181, 0, 31, 29, 172]
abbrev dktX1_read_4 : List UInt8 := dkwX1_read_4 ++ []
def dkwX1_read_3 : List UInt8 := [180, 0, 226, 181, 0, 230, 187, 0, 231, 89, 183, 0, 233, 191, 58, 4, 42, 29, 181, 0, 54, 187, 0, 231]
abbrev dktX1_read_3 : List UInt8 := dkwX1_read_3 ++ dktX1_read_4
def dkwX1_read_2 : List UInt8 := [182, 1, 131, 54, 6, 132, 3, 1, 167, 255, 223, 167, 0, 42, 58, 4, 42, 29, 181, 0, 54, 42, 25, 4]
abbrev dktX1_read_2 : List UInt8 := dkwX1_read_2 ++ dktX1_read_3
def dkwX1_read_1 : List UInt8 := [185, 1, 73, 1, 0, 153, 0, 29, 25, 4, 185, 1, 79, 1, 0, 192, 1, 129, 58, 5, 25, 5, 44]
abbrev dktX1_read_1 : List UInt8 := dkwX1_read_1 ++ dktX1_read_2
def dkwX1_read_0 : List UInt8 := [42, 182, 1, 123, 76, 42, 180, 0, 31, 182, 0, 90, 77, 3, 62, 43, 182, 1, 126, 58, 4, 25, 4]
abbrev dktX1_read_0 : List UInt8 := dkwX1_read_0 ++ dktX1_read_1
theorem dksX1_read_0 : cX1_read.data.toList.drop 0 = dktX1_read_0 := by decide +kernel
theorem dksX1_read_1 : cX1_read.data.toList.drop 23 = dktX1_read_1 := dk_seg dksX1_read_0 23 rfl rfl
theorem dksX1_read_2 : cX1_read.data.toList.drop 46 = dktX1_read_2 := dk_seg dksX1_read_1 23 rfl rfl
theorem dksX1_read_3 : cX1_read.data.toList.drop 70 = dktX1_read_3 := dk_seg dksX1_read_2 24 rfl rfl
theorem dksX1_read_4 : cX1_read.data.toList.drop 94 = dktX1_read_4 := dk_seg dksX1_read_3 24 rfl rfl
theorem dX1_read_0 : decode cX1_read 0 = .ok (.aload_n 0, 1) := dk_42 (dk_at dksX1_read_0 0 rfl rfl)
theorem dX1_read_1 : decode cX1_read 1 = .ok (.invokevirtual 379, 3) := dk_182 1 123 (dk_at dksX1_read_0 1 rfl rfl)
theorem dX1_read_4 : decode cX1_read 4 = .ok (.astore_n 1, 1) := dk_76 (dk_at dksX1_read_0 4 rfl rfl)
theorem dX1_read_5 : decode cX1_read 5 = .ok (.aload_n 0, 1) := dk_42 (dk_at dksX1_read_0 5 rfl rfl)
theorem dX1_read_6 : decode cX1_read 6 = .ok (.getfield 31, 3) := dk_180 0 31 (dk_at dksX1_read_0 6 rfl rfl)
theorem dX1_read_9 : decode cX1_read 9 = .ok (.invokevirtual 90, 3) := dk_182 0 90 (dk_at dksX1_read_0 9 rfl rfl)
theorem dX1_read_12 : decode cX1_read 12 = .ok (.astore_n 2, 1) := dk_77 (dk_at dksX1_read_0 12 rfl rfl)
theorem dX1_read_13 : decode cX1_read 13 = .ok (.iconst 0, 1) := dk_3 (dk_at dksX1_read_0 13 rfl rfl)
theorem dX1_read_14 : decode cX1_read 14 = .ok (.istore_n 3, 1) := dk_62 (dk_at dksX1_read_0 14 rfl rfl)
theorem dX1_read_15 : decode cX1_read 15 = .ok (.aload_n 1, 1) := dk_43 (dk_at dksX1_read_0 15 rfl rfl)
theorem dX1_read_16 : decode cX1_read 16 = .ok (.invokevirtual 382, 3) := dk_182 1 126 (dk_at dksX1_read_0 16 rfl rfl)
theorem dX1_read_19 : decode cX1_read 19 = .ok (.astore 4, 2) := dk_58 4 (dk_at dksX1_read_0 19 rfl rfl)
theorem dX1_read_21 : decode cX1_read 21 = .ok (.aload 4, 2) := dk_25 4 (dk_at dksX1_read_0 21 rfl rfl)
theorem dX1_read_23 : decode cX1_read 23 = .ok (.invokeinterface 329 1, 5) := by decide +kernel
theorem dX1_read_28 : decode cX1_read 28 = .ok (.ifCond .eq 29, 3) := dk_153 0 29 (dk_at dksX1_read_1 5 rfl rfl)
theorem dX1_read_31 : decode cX1_read 31 = .ok (.aload 4, 2) := dk_25 4 (dk_at dksX1_read_1 8 rfl rfl)
theorem dX1_read_33 : decode cX1_read 33 = .ok (.invokeinterface 335 1, 5) := by decide +kernel
theorem dX1_read_38 : decode cX1_read 38 = .ok (.checkcast 385, 3) := dk_192 1 129 (dk_at dksX1_read_1 15 rfl rfl)
theorem dX1_read_41 : decode cX1_read 41 = .ok (.astore 5, 2) := dk_58 5 (dk_at dksX1_read_1 18 rfl rfl)
theorem dX1_read_43 : decode cX1_read 43 = .ok (.aload 5, 2) := dk_25 5 (dk_at dksX1_read_1 20 rfl rfl)
theorem dX1_read_45 : decode cX1_read 45 = .ok (.aload_n 2, 1) := dk_44 (dk_at dksX1_read_1 22 rfl rfl)
theorem dX1_read_46 : decode cX1_read 46 = .ok (.invokevirtual 387, 3) := dk_182 1 131 (dk_at dksX1_read_2 0 rfl rfl)
theorem dX1_read_49 : decode cX1_read 49 = .ok (.istore 6, 2) := dk_54 6 (dk_at dksX1_read_2 3 rfl rfl)
theorem dX1_read_51 : decode cX1_read 51 = .ok (.iinc 3 1, 3) := dk_132 3 1 (dk_at dksX1_read_2 5 rfl rfl)
theorem dX1_read_54 : decode cX1_read 54 = .ok (.goto (-33), 3) := dk_167 255 223 (dk_at dksX1_read_2 8 rfl rfl)
theorem dX1_read_57 : decode cX1_read 57 = .ok (.goto 42, 3) := dk_167 0 42 (dk_at dksX1_read_2 11 rfl rfl)
theorem dX1_read_60 : decode cX1_read 60 = .ok (.astore 4, 2) := dk_58 4 (dk_at dksX1_read_2 14 rfl rfl)
theorem dX1_read_62 : decode cX1_read 62 = .ok (.aload_n 0, 1) := dk_42 (dk_at dksX1_read_2 16 rfl rfl)
theorem dX1_read_63 : decode cX1_read 63 = .ok (.iload_n 3, 1) := dk_29 (dk_at dksX1_read_2 17 rfl rfl)
theorem dX1_read_64 : decode cX1_read 64 = .ok (.putfield 54, 3) := dk_181 0 54 (dk_at dksX1_read_2 18 rfl rfl)
theorem dX1_read_67 : decode cX1_read 67 = .ok (.aload_n 0, 1) := dk_42 (dk_at dksX1_read_2 21 rfl rfl)
theorem dX1_read_68 : decode cX1_read 68 = .ok (.aload 4, 2) := dk_25 4 (dk_at dksX1_read_2 22 rfl rfl)
theorem dX1_read_70 : decode cX1_read 70 = .ok (.getfield 226, 3) := dk_180 0 226 (dk_at dksX1_read_3 0 rfl rfl)
theorem dX1_read_73 : decode cX1_read 73 = .ok (.putfield 230, 3) := dk_181 0 230 (dk_at dksX1_read_3 3 rfl rfl)
theorem dX1_read_76 : decode cX1_read 76 = .ok (.new 231, 3) := dk_187 0 231 (dk_at dksX1_read_3 6 rfl rfl)
theorem dX1_read_79 : decode cX1_read 79 = .ok (.dup, 1) := dk_89 (dk_at dksX1_read_3 9 rfl rfl)
theorem dX1_read_80 : decode cX1_read 80 = .ok (.invokespecial 233, 3) := dk_183 0 233 (dk_at dksX1_read_3 10 rfl rfl)
theorem dX1_read_83 : decode cX1_read 83 = .ok (.athrow, 1) := dk_191 (dk_at dksX1_read_3 13 rfl rfl)
theorem dX1_read_84 : decode cX1_read 84 = .ok (.astore 4, 2) := dk_58 4 (dk_at dksX1_read_3 14 rfl rfl)
theorem dX1_read_86 : decode cX1_read 86 = .ok (.aload_n 0, 1) := dk_42 (dk_at dksX1_read_3 16 rfl rfl)
theorem dX1_read_87 : decode cX1_read 87 = .ok (.iload_n 3, 1) := dk_29 (dk_at dksX1_read_3 17 rfl rfl)
theorem dX1_read_88 : decode cX1_read 88 = .ok (.putfield 54, 3) := dk_181 0 54 (dk_at dksX1_read_3 18 rfl rfl)
theorem dX1_read_91 : decode cX1_read 91 = .ok (.new 231, 3) := dk_187 0 231 (dk_at dksX1_read_3 21 rfl rfl)
theorem dX1_read_94 : decode cX1_read 94 = .ok (.dup, 1) := dk_89 (dk_at dksX1_read_4 0 rfl rfl)
theorem dX1_read_95 : decode cX1_read 95 = .ok (.invokespecial 233, 3) := dk_183 0 233 (dk_at dksX1_read_4 1 rfl rfl)
theorem dX1_read_98 : decode cX1_read 98 = .ok (.athrow, 1) := dk_191 (dk_at dksX1_read_4 4 rfl rfl)
theorem dX1_read_99 : decode cX1_read 99 = .ok (.aload_n 0, 1) := dk_42 (dk_at dksX1_read_4 5 rfl rfl)
theorem dX1_read_100 : decode cX1_read 100 = .ok (.aload_n 0, 1) := dk_42 (dk_at dksX1_read_4 6 rfl rfl)
theorem dX1_read_101 : decode cX1_read 101 = .ok (.getfield 31, 3) := dk_180 0 31 (dk_at dksX1_read_4 7 rfl rfl)
theorem dX1_read_104 : decode cX1_read 104 = .ok (.invokevirtual 106, 3) := dk_182 0 106 (dk_at dksX1_read_4 10 rfl rfl)
theorem dX1_read_107 : decode cX1_read 107 = .ok (.aload_n 0, 1) := dk_42 (dk_at dksX1_read_4 13 rfl rfl)
theorem dX1_read_108 : decode cX1_read 108 = .ok (.aload_n 2, 1) := dk_44 (dk_at dksX1_read_4 14 rfl rfl)
theorem dX1_read_109 : decode cX1_read 109 = .ok (.putfield 31, 3) := dk_181 0 31 (dk_at dksX1_read_4 15 rfl rfl)
theorem dX1_read_112 : decode cX1_read 112 = .ok (.iload_n 3, 1) := dk_29 (dk_at dksX1_read_4 18 rfl rfl)
theorem dX1_read_113 : decode cX1_read 113 = .ok (.ireturn, 1) := dk_172 (dk_at dksX1_read_4 19 rfl rfl)
abbrev cX1_takeItems : ByteArray := prog_1_method_50_code
def yX1_takeItems : MethodName := ⟨RX1, "takeItems", "()Ljava/util/ArrayList;"⟩
def dkwX1_takeItems_1 : List UInt8 := [182, 1, 113, 176, 77, 42, 44, 181, 1, 119, 187, 0, 1, 89, 183, 0, 3, 191]
abbrev dktX1_takeItems_1 : List UInt8 := dkwX1_takeItems_1 ++ []
def dkwX1_takeItems_0 : List UInt8 := [187, 1, 108, 89, 42, 180, 0, 50, 183, 1, 110, 76, 42, 187, 0, 47, 89, 183, 0, 49, 181, 0, 50, 43]
abbrev dktX1_takeItems_0 : List UInt8 := dkwX1_takeItems_0 ++ dktX1_takeItems_1
theorem dksX1_takeItems_0 : cX1_takeItems.data.toList.drop 0 = dktX1_takeItems_0 := by decide +kernel
theorem dksX1_takeItems_1 : cX1_takeItems.data.toList.drop 24 = dktX1_takeItems_1 := dk_seg dksX1_takeItems_0 24 rfl rfl
theorem dX1_takeItems_0 : decode cX1_takeItems 0 = .ok (.new 364, 3) := dk_187 1 108 (dk_at dksX1_takeItems_0 0 rfl rfl)
theorem dX1_takeItems_3 : decode cX1_takeItems 3 = .ok (.dup, 1) := dk_89 (dk_at dksX1_takeItems_0 3 rfl rfl)
theorem dX1_takeItems_4 : decode cX1_takeItems 4 = .ok (.aload_n 0, 1) := dk_42 (dk_at dksX1_takeItems_0 4 rfl rfl)
theorem dX1_takeItems_5 : decode cX1_takeItems 5 = .ok (.getfield 50, 3) := dk_180 0 50 (dk_at dksX1_takeItems_0 5 rfl rfl)
theorem dX1_takeItems_8 : decode cX1_takeItems 8 = .ok (.invokespecial 366, 3) := dk_183 1 110 (dk_at dksX1_takeItems_0 8 rfl rfl)
theorem dX1_takeItems_11 : decode cX1_takeItems 11 = .ok (.astore_n 1, 1) := dk_76 (dk_at dksX1_takeItems_0 11 rfl rfl)
theorem dX1_takeItems_12 : decode cX1_takeItems 12 = .ok (.aload_n 0, 1) := dk_42 (dk_at dksX1_takeItems_0 12 rfl rfl)
theorem dX1_takeItems_13 : decode cX1_takeItems 13 = .ok (.new 47, 3) := dk_187 0 47 (dk_at dksX1_takeItems_0 13 rfl rfl)
theorem dX1_takeItems_16 : decode cX1_takeItems 16 = .ok (.dup, 1) := dk_89 (dk_at dksX1_takeItems_0 16 rfl rfl)
theorem dX1_takeItems_17 : decode cX1_takeItems 17 = .ok (.invokespecial 49, 3) := dk_183 0 49 (dk_at dksX1_takeItems_0 17 rfl rfl)
theorem dX1_takeItems_20 : decode cX1_takeItems 20 = .ok (.putfield 50, 3) := dk_181 0 50 (dk_at dksX1_takeItems_0 20 rfl rfl)
theorem dX1_takeItems_23 : decode cX1_takeItems 23 = .ok (.aload_n 1, 1) := dk_43 (dk_at dksX1_takeItems_0 23 rfl rfl)
theorem dX1_takeItems_24 : decode cX1_takeItems 24 = .ok (.invokevirtual 369, 3) := dk_182 1 113 (dk_at dksX1_takeItems_1 0 rfl rfl)
theorem dX1_takeItems_27 : decode cX1_takeItems 27 = .ok (.areturn, 1) := dk_176 (dk_at dksX1_takeItems_1 3 rfl rfl)
theorem dX1_takeItems_28 : decode cX1_takeItems 28 = .ok (.astore_n 2, 1) := dk_77 (dk_at dksX1_takeItems_1 4 rfl rfl)
theorem dX1_takeItems_29 : decode cX1_takeItems 29 = .ok (.aload_n 0, 1) := dk_42 (dk_at dksX1_takeItems_1 5 rfl rfl)
theorem dX1_takeItems_30 : decode cX1_takeItems 30 = .ok (.aload_n 2, 1) := dk_44 (dk_at dksX1_takeItems_1 6 rfl rfl)
theorem dX1_takeItems_31 : decode cX1_takeItems 31 = .ok (.putfield 375, 3) := dk_181 1 119 (dk_at dksX1_takeItems_1 7 rfl rfl)
theorem dX1_takeItems_34 : decode cX1_takeItems 34 = .ok (.new 1, 3) := dk_187 0 1 (dk_at dksX1_takeItems_1 10 rfl rfl)
theorem dX1_takeItems_37 : decode cX1_takeItems 37 = .ok (.dup, 1) := dk_89 (dk_at dksX1_takeItems_1 13 rfl rfl)
theorem dX1_takeItems_38 : decode cX1_takeItems 38 = .ok (.invokespecial 3, 3) := dk_183 0 3 (dk_at dksX1_takeItems_1 14 rfl rfl)
theorem dX1_takeItems_41 : decode cX1_takeItems 41 = .ok (.athrow, 1) := dk_191 (dk_at dksX1_takeItems_1 17 rfl rfl)
abbrev cX1_errorPosition : ByteArray := prog_1_method_52_code
def yX1_errorPosition : MethodName := ⟨RX1, "errorPosition", "()I"⟩
def dkwX1_errorPosition_0 : List UInt8 := [42, 180, 1, 119, 198, 0, 7, 4, 167, 0, 4, 3, 184, 0, 195, 42, 180, 1, 119, 180, 1, 135, 172]
abbrev dktX1_errorPosition_0 : List UInt8 := dkwX1_errorPosition_0 ++ []
theorem dksX1_errorPosition_0 : cX1_errorPosition.data.toList.drop 0 = dktX1_errorPosition_0 := by decide +kernel
theorem dX1_errorPosition_0 : decode cX1_errorPosition 0 = .ok (.aload_n 0, 1) := dk_42 (dk_at dksX1_errorPosition_0 0 rfl rfl)
theorem dX1_errorPosition_1 : decode cX1_errorPosition 1 = .ok (.getfield 375, 3) := dk_180 1 119 (dk_at dksX1_errorPosition_0 1 rfl rfl)
theorem dX1_errorPosition_4 : decode cX1_errorPosition 4 = .ok (.ifnull 7, 3) := dk_198 0 7 (dk_at dksX1_errorPosition_0 4 rfl rfl)
theorem dX1_errorPosition_7 : decode cX1_errorPosition 7 = .ok (.iconst 1, 1) := dk_4 (dk_at dksX1_errorPosition_0 7 rfl rfl)
theorem dX1_errorPosition_8 : decode cX1_errorPosition 8 = .ok (.goto 4, 3) := dk_167 0 4 (dk_at dksX1_errorPosition_0 8 rfl rfl)
theorem dX1_errorPosition_11 : decode cX1_errorPosition 11 = .ok (.iconst 0, 1) := dk_3 (dk_at dksX1_errorPosition_0 11 rfl rfl)
theorem dX1_errorPosition_12 : decode cX1_errorPosition 12 = .ok (.invokestatic 195, 3) := dk_184 0 195 (dk_at dksX1_errorPosition_0 12 rfl rfl)
theorem dX1_errorPosition_15 : decode cX1_errorPosition 15 = .ok (.aload_n 0, 1) := dk_42 (dk_at dksX1_errorPosition_0 15 rfl rfl)
theorem dX1_errorPosition_16 : decode cX1_errorPosition 16 = .ok (.getfield 375, 3) := dk_180 1 119 (dk_at dksX1_errorPosition_0 16 rfl rfl)
theorem dX1_errorPosition_19 : decode cX1_errorPosition 19 = .ok (.getfield 391, 3) := dk_180 1 135 (dk_at dksX1_errorPosition_0 19 rfl rfl)
theorem dX1_errorPosition_22 : decode cX1_errorPosition 22 = .ok (.ireturn, 1) := dk_172 (dk_at dksX1_errorPosition_0 22 rfl rfl)
abbrev cX1_refusedItem : ByteArray := prog_1_method_53_code
def yX1_refusedItem : MethodName := ⟨RX1, "refusedItem", "()I"⟩
def dkwX1_refusedItem_0 : List UInt8 := [42, 180, 0, 54, 2, 159, 0, 7, 4, 167, 0, 4, 3, 184, 0, 195, 42, 180, 0, 54, 172]
abbrev dktX1_refusedItem_0 : List UInt8 := dkwX1_refusedItem_0 ++ []
theorem dksX1_refusedItem_0 : cX1_refusedItem.data.toList.drop 0 = dktX1_refusedItem_0 := by decide +kernel
theorem dX1_refusedItem_0 : decode cX1_refusedItem 0 = .ok (.aload_n 0, 1) := dk_42 (dk_at dksX1_refusedItem_0 0 rfl rfl)
theorem dX1_refusedItem_1 : decode cX1_refusedItem 1 = .ok (.getfield 54, 3) := dk_180 0 54 (dk_at dksX1_refusedItem_0 1 rfl rfl)
theorem dX1_refusedItem_4 : decode cX1_refusedItem 4 = .ok (.iconst (-1), 1) := dk_2 (dk_at dksX1_refusedItem_0 4 rfl rfl)
theorem dX1_refusedItem_5 : decode cX1_refusedItem 5 = .ok (.if_icmp .eq 7, 3) := dk_159 0 7 (dk_at dksX1_refusedItem_0 5 rfl rfl)
theorem dX1_refusedItem_8 : decode cX1_refusedItem 8 = .ok (.iconst 1, 1) := dk_4 (dk_at dksX1_refusedItem_0 8 rfl rfl)
theorem dX1_refusedItem_9 : decode cX1_refusedItem 9 = .ok (.goto 4, 3) := dk_167 0 4 (dk_at dksX1_refusedItem_0 9 rfl rfl)
theorem dX1_refusedItem_12 : decode cX1_refusedItem 12 = .ok (.iconst 0, 1) := dk_3 (dk_at dksX1_refusedItem_0 12 rfl rfl)
theorem dX1_refusedItem_13 : decode cX1_refusedItem 13 = .ok (.invokestatic 195, 3) := dk_184 0 195 (dk_at dksX1_refusedItem_0 13 rfl rfl)
theorem dX1_refusedItem_16 : decode cX1_refusedItem 16 = .ok (.aload_n 0, 1) := dk_42 (dk_at dksX1_refusedItem_0 16 rfl rfl)
theorem dX1_refusedItem_17 : decode cX1_refusedItem 17 = .ok (.getfield 54, 3) := dk_180 0 54 (dk_at dksX1_refusedItem_0 17 rfl rfl)
theorem dX1_refusedItem_20 : decode cX1_refusedItem 20 = .ok (.ireturn, 1) := dk_172 (dk_at dksX1_refusedItem_0 20 rfl rfl)
abbrev cX1_undo : ByteArray := prog_1_method_54_code
def yX1_undo : MethodName := ⟨RX1, "undo", "()I"⟩
def dkwX1_undo_1 : List UInt8 := [182, 1, 141, 192, 0, 28, 181, 0, 31, 42, 180, 0, 38, 182, 0, 58, 172]
abbrev dktX1_undo_1 : List UInt8 := dkwX1_undo_1 ++ []
def dkwX1_undo_0 : List UInt8 := [42, 180, 0, 38, 182, 1, 138, 154, 0, 7, 4, 167, 0, 4, 3, 184, 0, 234, 42, 42, 180, 0, 38]
abbrev dktX1_undo_0 : List UInt8 := dkwX1_undo_0 ++ dktX1_undo_1
theorem dksX1_undo_0 : cX1_undo.data.toList.drop 0 = dktX1_undo_0 := by decide +kernel
theorem dksX1_undo_1 : cX1_undo.data.toList.drop 23 = dktX1_undo_1 := dk_seg dksX1_undo_0 23 rfl rfl
theorem dX1_undo_0 : decode cX1_undo 0 = .ok (.aload_n 0, 1) := dk_42 (dk_at dksX1_undo_0 0 rfl rfl)
theorem dX1_undo_1 : decode cX1_undo 1 = .ok (.getfield 38, 3) := dk_180 0 38 (dk_at dksX1_undo_0 1 rfl rfl)
theorem dX1_undo_4 : decode cX1_undo 4 = .ok (.invokevirtual 394, 3) := dk_182 1 138 (dk_at dksX1_undo_0 4 rfl rfl)
theorem dX1_undo_7 : decode cX1_undo 7 = .ok (.ifCond .ne 7, 3) := dk_154 0 7 (dk_at dksX1_undo_0 7 rfl rfl)
theorem dX1_undo_10 : decode cX1_undo 10 = .ok (.iconst 1, 1) := dk_4 (dk_at dksX1_undo_0 10 rfl rfl)
theorem dX1_undo_11 : decode cX1_undo 11 = .ok (.goto 4, 3) := dk_167 0 4 (dk_at dksX1_undo_0 11 rfl rfl)
theorem dX1_undo_14 : decode cX1_undo 14 = .ok (.iconst 0, 1) := dk_3 (dk_at dksX1_undo_0 14 rfl rfl)
theorem dX1_undo_15 : decode cX1_undo 15 = .ok (.invokestatic 234, 3) := dk_184 0 234 (dk_at dksX1_undo_0 15 rfl rfl)
theorem dX1_undo_18 : decode cX1_undo 18 = .ok (.aload_n 0, 1) := dk_42 (dk_at dksX1_undo_0 18 rfl rfl)
theorem dX1_undo_19 : decode cX1_undo 19 = .ok (.aload_n 0, 1) := dk_42 (dk_at dksX1_undo_0 19 rfl rfl)
theorem dX1_undo_20 : decode cX1_undo 20 = .ok (.getfield 38, 3) := dk_180 0 38 (dk_at dksX1_undo_0 20 rfl rfl)
theorem dX1_undo_23 : decode cX1_undo 23 = .ok (.invokevirtual 397, 3) := dk_182 1 141 (dk_at dksX1_undo_1 0 rfl rfl)
theorem dX1_undo_26 : decode cX1_undo 26 = .ok (.checkcast 28, 3) := dk_192 0 28 (dk_at dksX1_undo_1 3 rfl rfl)
theorem dX1_undo_29 : decode cX1_undo 29 = .ok (.putfield 31, 3) := dk_181 0 31 (dk_at dksX1_undo_1 6 rfl rfl)
theorem dX1_undo_32 : decode cX1_undo 32 = .ok (.aload_n 0, 1) := dk_42 (dk_at dksX1_undo_1 9 rfl rfl)
theorem dX1_undo_33 : decode cX1_undo 33 = .ok (.getfield 38, 3) := dk_180 0 38 (dk_at dksX1_undo_1 10 rfl rfl)
theorem dX1_undo_36 : decode cX1_undo 36 = .ok (.invokevirtual 58, 3) := dk_182 0 58 (dk_at dksX1_undo_1 13 rfl rfl)
theorem dX1_undo_39 : decode cX1_undo 39 = .ok (.ireturn, 1) := dk_172 (dk_at dksX1_undo_1 16 rfl rfl)
abbrev cX1_restore : ByteArray := prog_1_method_56_code
def yX1_restore : MethodName := ⟨RX1, "restore", "()I"⟩
def dkwX1_restore_1 : List UInt8 := [181, 0, 31, 42, 180, 0, 38, 182, 0, 77, 42, 180, 0, 31, 180, 0, 70, 182, 0, 74, 172]
abbrev dktX1_restore_1 : List UInt8 := dkwX1_restore_1 ++ []
def dkwX1_restore_0 : List UInt8 := [42, 180, 1, 144, 198, 0, 7, 4, 167, 0, 4, 3, 184, 0, 234, 42, 42, 180, 1, 144, 182, 0, 90]
abbrev dktX1_restore_0 : List UInt8 := dkwX1_restore_0 ++ dktX1_restore_1
theorem dksX1_restore_0 : cX1_restore.data.toList.drop 0 = dktX1_restore_0 := by decide +kernel
theorem dksX1_restore_1 : cX1_restore.data.toList.drop 23 = dktX1_restore_1 := dk_seg dksX1_restore_0 23 rfl rfl
theorem dX1_restore_0 : decode cX1_restore 0 = .ok (.aload_n 0, 1) := dk_42 (dk_at dksX1_restore_0 0 rfl rfl)
theorem dX1_restore_1 : decode cX1_restore 1 = .ok (.getfield 400, 3) := dk_180 1 144 (dk_at dksX1_restore_0 1 rfl rfl)
theorem dX1_restore_4 : decode cX1_restore 4 = .ok (.ifnull 7, 3) := dk_198 0 7 (dk_at dksX1_restore_0 4 rfl rfl)
theorem dX1_restore_7 : decode cX1_restore 7 = .ok (.iconst 1, 1) := dk_4 (dk_at dksX1_restore_0 7 rfl rfl)
theorem dX1_restore_8 : decode cX1_restore 8 = .ok (.goto 4, 3) := dk_167 0 4 (dk_at dksX1_restore_0 8 rfl rfl)
theorem dX1_restore_11 : decode cX1_restore 11 = .ok (.iconst 0, 1) := dk_3 (dk_at dksX1_restore_0 11 rfl rfl)
theorem dX1_restore_12 : decode cX1_restore 12 = .ok (.invokestatic 234, 3) := dk_184 0 234 (dk_at dksX1_restore_0 12 rfl rfl)
theorem dX1_restore_15 : decode cX1_restore 15 = .ok (.aload_n 0, 1) := dk_42 (dk_at dksX1_restore_0 15 rfl rfl)
theorem dX1_restore_16 : decode cX1_restore 16 = .ok (.aload_n 0, 1) := dk_42 (dk_at dksX1_restore_0 16 rfl rfl)
theorem dX1_restore_17 : decode cX1_restore 17 = .ok (.getfield 400, 3) := dk_180 1 144 (dk_at dksX1_restore_0 17 rfl rfl)
theorem dX1_restore_20 : decode cX1_restore 20 = .ok (.invokevirtual 90, 3) := dk_182 0 90 (dk_at dksX1_restore_0 20 rfl rfl)
theorem dX1_restore_23 : decode cX1_restore 23 = .ok (.putfield 31, 3) := dk_181 0 31 (dk_at dksX1_restore_1 0 rfl rfl)
theorem dX1_restore_26 : decode cX1_restore 26 = .ok (.aload_n 0, 1) := dk_42 (dk_at dksX1_restore_1 3 rfl rfl)
theorem dX1_restore_27 : decode cX1_restore 27 = .ok (.getfield 38, 3) := dk_180 0 38 (dk_at dksX1_restore_1 4 rfl rfl)
theorem dX1_restore_30 : decode cX1_restore 30 = .ok (.invokevirtual 77, 3) := dk_182 0 77 (dk_at dksX1_restore_1 7 rfl rfl)
theorem dX1_restore_33 : decode cX1_restore 33 = .ok (.aload_n 0, 1) := dk_42 (dk_at dksX1_restore_1 10 rfl rfl)
theorem dX1_restore_34 : decode cX1_restore 34 = .ok (.getfield 31, 3) := dk_180 0 31 (dk_at dksX1_restore_1 11 rfl rfl)
theorem dX1_restore_37 : decode cX1_restore 37 = .ok (.getfield 70, 3) := dk_180 0 70 (dk_at dksX1_restore_1 14 rfl rfl)
theorem dX1_restore_40 : decode cX1_restore 40 = .ok (.invokevirtual 74, 3) := dk_182 0 74 (dk_at dksX1_restore_1 17 rfl rfl)
theorem dX1_restore_43 : decode cX1_restore 43 = .ok (.ireturn, 1) := dk_172 (dk_at dksX1_restore_1 20 rfl rfl)
theorem q69 : (Jvm.Cond.initialized "TermsDesk") ∈ lw_all := lw_g (lw_at lw_m1 1 rfl) rfl
theorem q117 : (Jvm.Cond.instantiable "TermsDesk" (8 : Nat)) ∈ lw_all := lw_g (lw_at lw_m1 49 rfl) rfl
theorem q119 : (Jvm.Cond.instanceMethod ({ cls := "TermsDesk", name := "<init>", desc := "()V" } : Jvm.MethodName)) ∈ lw_all := lw_g (lw_at lw_m1 51 rfl) rfl
theorem q120 : (Jvm.Cond.code ({ cls := "TermsDesk", name := "<init>", desc := "()V" } : Jvm.MethodName) prog_1_method_11_code (1 : Nat) (Option.none : Option Jvm.ClassFile.FieldType)) ∈ lw_all := lw_g (lw_at lw_m1 52 rfl) rfl
theorem q121 : (Jvm.Cond.methodLink "TermsDesk" (25 : Nat) ({ cls := "java/lang/Object", name := "<init>", desc := "()V" } : Jvm.MethodName)) ∈ lw_all := lw_g (lw_at lw_m1 53 rfl) rfl
theorem q124 : (Jvm.Cond.classLink "TermsDesk" (28 : Nat) "TermsDesk$Desk") ∈ lw_all := lw_g (lw_at lw_m1 56 rfl) rfl
theorem q126 : (Jvm.Cond.methodLinkNest "TermsDesk" (30 : Nat) ({ cls := "TermsDesk$Desk", name := "<init>", desc := "()V" } : Jvm.MethodName) "TermsDesk") ∈ lw_tbl := lw_at lw_m1 58 rfl
theorem q174 : (Jvm.Cond.fieldLinkNest "TermsDesk" (94 : Nat) "TermsDesk$Desk" "licences" "LTermsDesk$Shelf;" "TermsDesk") ∈ lw_tbl := lw_at lw_m1 106 rfl
theorem q177 : (Jvm.Cond.fieldLinkNest "TermsDesk" (70 : Nat) "TermsDesk$Desk" "files" "LTermsDesk$Shelf;" "TermsDesk") ∈ lw_tbl := lw_at lw_m1 109 rfl
theorem q180 : (Jvm.Cond.fieldLinkNest "TermsDesk" (142 : Nat) "TermsDesk$Desk" "works" "LTermsDesk$Shelf;" "TermsDesk") ∈ lw_tbl := lw_at lw_m1 112 rfl
theorem q188 : (Jvm.Cond.classLink "TermsDesk" (35 : Nat) "java/util/ArrayDeque") ∈ lw_all := lw_g (lw_at lw_m1 120 rfl) rfl
theorem q190 : (Jvm.Cond.methodLink "TermsDesk" (37 : Nat) ({ cls := "java/util/ArrayDeque", name := "<init>", desc := "()V" } : Jvm.MethodName)) ∈ lw_all := lw_g (lw_at lw_m1 122 rfl) rfl
theorem q206 : (Jvm.Cond.classLink "TermsDesk" (42 : Nat) "[[J") ∈ lw_all := lw_g (lw_at lw_m1 138 rfl) rfl
theorem q208 : (Jvm.Cond.classLink "TermsDesk" (47 : Nat) "java/lang/StringBuilder") ∈ lw_all := lw_g (lw_at lw_m1 140 rfl) rfl
theorem q210 : (Jvm.Cond.methodLink "TermsDesk" (49 : Nat) ({ cls := "java/lang/StringBuilder", name := "<init>", desc := "()V" } : Jvm.MethodName)) ∈ lw_all := lw_g (lw_at lw_m1 142 rfl) rfl
theorem q241 : (Jvm.Cond.fieldLink "TermsDesk" (31 : Nat) "TermsDesk" "desk" "LTermsDesk$Desk;") ∈ lw_all := lw_g (lw_at lw_m1 173 rfl) rfl
theorem q242 : (Jvm.Cond.fieldLink "TermsDesk" (38 : Nat) "TermsDesk" "undoSteps" "Ljava/util/ArrayDeque;") ∈ lw_all := lw_g (lw_at lw_m1 174 rfl) rfl
theorem q243 : (Jvm.Cond.fieldLink "TermsDesk" (400 : Nat) "TermsDesk" "saved" "LTermsDesk$Desk;") ∈ lw_all := lw_g (lw_at lw_m1 175 rfl) rfl
theorem q244 : (Jvm.Cond.fieldLink "TermsDesk" (44 : Nat) "TermsDesk" "rows" "[[J") ∈ lw_all := lw_g (lw_at lw_m1 176 rfl) rfl
theorem q245 : (Jvm.Cond.fieldLink "TermsDesk" (50 : Nat) "TermsDesk" "input" "Ljava/lang/StringBuilder;") ∈ lw_all := lw_g (lw_at lw_m1 177 rfl) rfl
theorem q246 : (Jvm.Cond.fieldLink "TermsDesk" (375 : Nat) "TermsDesk" "lastError" "LTermsDesk$SyntaxException;") ∈ lw_all := lw_g (lw_at lw_m1 178 rfl) rfl
theorem q247 : (Jvm.Cond.fieldLink "TermsDesk" (54 : Nat) "TermsDesk" "lastItem" "I") ∈ lw_all := lw_g (lw_at lw_m1 179 rfl) rfl
theorem q248 : (Jvm.Cond.fieldLink "TermsDesk" (230 : Nat) "TermsDesk" "chain" "[I") ∈ lw_all := lw_g (lw_at lw_m1 180 rfl) rfl
theorem q249 : (Jvm.Cond.lays "TermsDesk" "TermsDesk" "desk" "LTermsDesk$Desk;") ∈ lw_all := lw_g (lw_at lw_m1 181 rfl) rfl
theorem q250 : (Jvm.Cond.soleField "TermsDesk" "desk") ∈ lw_all := lw_g (lw_at lw_m1 182 rfl) rfl
theorem q251 : (Jvm.Cond.laysFinal "TermsDesk" "TermsDesk" "undoSteps" "Ljava/util/ArrayDeque;") ∈ lw_all := lw_g (lw_at lw_m1 183 rfl) rfl
theorem q252 : (Jvm.Cond.soleField "TermsDesk" "undoSteps") ∈ lw_all := lw_g (lw_at lw_m1 184 rfl) rfl
theorem q253 : (Jvm.Cond.lays "TermsDesk" "TermsDesk" "saved" "LTermsDesk$Desk;") ∈ lw_all := lw_g (lw_at lw_m1 185 rfl) rfl
theorem q254 : (Jvm.Cond.soleField "TermsDesk" "saved") ∈ lw_all := lw_g (lw_at lw_m1 186 rfl) rfl
theorem q255 : (Jvm.Cond.laysFinal "TermsDesk" "TermsDesk" "rows" "[[J") ∈ lw_all := lw_g (lw_at lw_m1 187 rfl) rfl
theorem q256 : (Jvm.Cond.soleField "TermsDesk" "rows") ∈ lw_all := lw_g (lw_at lw_m1 188 rfl) rfl
theorem q257 : (Jvm.Cond.lays "TermsDesk" "TermsDesk" "input" "Ljava/lang/StringBuilder;") ∈ lw_all := lw_g (lw_at lw_m1 189 rfl) rfl
theorem q258 : (Jvm.Cond.soleField "TermsDesk" "input") ∈ lw_all := lw_g (lw_at lw_m1 190 rfl) rfl
theorem q259 : (Jvm.Cond.lays "TermsDesk" "TermsDesk" "lastError" "LTermsDesk$SyntaxException;") ∈ lw_all := lw_g (lw_at lw_m1 191 rfl) rfl
theorem q260 : (Jvm.Cond.soleField "TermsDesk" "lastError") ∈ lw_all := lw_g (lw_at lw_m1 192 rfl) rfl
theorem q261 : (Jvm.Cond.lays "TermsDesk" "TermsDesk" "lastItem" "I") ∈ lw_all := lw_g (lw_at lw_m1 193 rfl) rfl
theorem q262 : (Jvm.Cond.soleField "TermsDesk" "lastItem") ∈ lw_all := lw_g (lw_at lw_m1 194 rfl) rfl
theorem q263 : (Jvm.Cond.lays "TermsDesk" "TermsDesk" "chain" "[I") ∈ lw_all := lw_g (lw_at lw_m1 195 rfl) rfl
theorem q264 : (Jvm.Cond.soleField "TermsDesk" "chain") ∈ lw_all := lw_g (lw_at lw_m1 196 rfl) rfl
theorem q265 : (Jvm.Cond.superclass "TermsDesk" "java/lang/Object") ∈ lw_all := lw_g (lw_at lw_m1 197 rfl) rfl
theorem q267 : (Jvm.Cond.instanceMethod ({ cls := "TermsDesk", name := "clear", desc := "()I" } : Jvm.MethodName)) ∈ lw_all := lw_g (lw_at lw_m1 199 rfl) rfl
theorem q268 : (Jvm.Cond.selects "TermsDesk" ({ cls := "TermsDesk", name := "clear", desc := "()I" } : Jvm.MethodName) ({ cls := "TermsDesk", name := "clear", desc := "()I" } : Jvm.MethodName)) ∈ lw_all := lw_g (lw_at lw_m1 200 rfl) rfl
theorem q269 : (Jvm.Cond.code ({ cls := "TermsDesk", name := "clear", desc := "()I" } : Jvm.MethodName) prog_1_method_13_code (2 : Nat) (Option.some Jvm.ClassFile.FieldType.int)) ∈ lw_all := lw_g (lw_at lw_m1 201 rfl) rfl
theorem q270 : (Jvm.Cond.methodLink "TermsDesk" (74 : Nat) ({ cls := "TermsDesk$Shelf", name := "size", desc := "()I" } : Jvm.MethodName)) ∈ lw_all := lw_g (lw_at lw_m1 202 rfl) rfl
theorem q278 : (Jvm.Cond.methodLink "TermsDesk" (77 : Nat) ({ cls := "java/util/ArrayDeque", name := "clear", desc := "()V" } : Jvm.MethodName)) ∈ lw_all := lw_g (lw_at lw_m1 210 rfl) rfl
theorem q286 : (Jvm.Cond.instanceMethod ({ cls := "TermsDesk", name := "isConsistent", desc := "()Z" } : Jvm.MethodName)) ∈ lw_all := lw_g (lw_at lw_m1 218 rfl) rfl
theorem q287 : (Jvm.Cond.selects "TermsDesk" ({ cls := "TermsDesk", name := "isConsistent", desc := "()Z" } : Jvm.MethodName) ({ cls := "TermsDesk", name := "isConsistent", desc := "()Z" } : Jvm.MethodName)) ∈ lw_all := lw_g (lw_at lw_m1 219 rfl) rfl
theorem q288 : (Jvm.Cond.code ({ cls := "TermsDesk", name := "isConsistent", desc := "()Z" } : Jvm.MethodName) prog_1_method_44_code (1 : Nat) (Option.some Jvm.ClassFile.FieldType.boolean)) ∈ lw_all := lw_g (lw_at lw_m1 220 rfl) rfl
theorem q289 : (Jvm.Cond.methodLink "TermsDesk" (338 : Nat) ({ cls := "TermsDesk$Desk", name := "isConsistent", desc := "()Z" } : Jvm.MethodName)) ∈ lw_all := lw_g (lw_at lw_m1 221 rfl) rfl
theorem q309 : (Jvm.Cond.static ({ cls := "TermsDesk", name := "inRange", desc := "(JJJ)Z" } : Jvm.MethodName)) ∈ lw_all := lw_g (lw_at lw_m2 1 rfl) rfl
theorem q310 : (Jvm.Cond.code ({ cls := "TermsDesk", name := "inRange", desc := "(JJJ)Z" } : Jvm.MethodName) prog_1_method_1_code (6 : Nat) (Option.some Jvm.ClassFile.FieldType.boolean)) ∈ lw_all := lw_g (lw_at lw_m2 2 rfl) rfl
theorem q312 : (Jvm.Cond.static ({ cls := "TermsDesk", name := "checkIndex", desc := "(Z)V" } : Jvm.MethodName)) ∈ lw_all := lw_g (lw_at lw_m2 4 rfl) rfl
theorem q313 : (Jvm.Cond.code ({ cls := "TermsDesk", name := "checkIndex", desc := "(Z)V" } : Jvm.MethodName) prog_1_method_3_code (1 : Nat) (Option.none : Option Jvm.ClassFile.FieldType)) ∈ lw_all := lw_g (lw_at lw_m2 5 rfl) rfl
theorem q314 : (Jvm.Cond.classLink "TermsDesk" (7 : Nat) "java/lang/IndexOutOfBoundsException") ∈ lw_all := lw_g (lw_at lw_m2 6 rfl) rfl
theorem q361 : (Jvm.Cond.methodLink "TermsDesk" (9 : Nat) ({ cls := "java/lang/IndexOutOfBoundsException", name := "<init>", desc := "()V" } : Jvm.MethodName)) ∈ lw_all := lw_g (lw_at lw_m2 53 rfl) rfl
theorem q412 : (Jvm.Cond.static ({ cls := "TermsDesk", name := "has", desc := "(II)Z" } : Jvm.MethodName)) ∈ lw_all := lw_g (lw_at lw_m2 104 rfl) rfl
theorem q413 : (Jvm.Cond.code ({ cls := "TermsDesk", name := "has", desc := "(II)Z" } : Jvm.MethodName) prog_1_method_7_code (2 : Nat) (Option.some Jvm.ClassFile.FieldType.boolean)) ∈ lw_all := lw_g (lw_at lw_m2 105 rfl) rfl
theorem q547 : (Jvm.Cond.static ({ cls := "TermsDesk", name := "dutiesOf", desc := "(JI)I" } : Jvm.MethodName)) ∈ lw_all := lw_g (lw_at lw_m2 239 rfl) rfl
theorem q548 : (Jvm.Cond.code ({ cls := "TermsDesk", name := "dutiesOf", desc := "(JI)I" } : Jvm.MethodName) prog_1_method_10_code (3 : Nat) (Option.some Jvm.ClassFile.FieldType.int)) ∈ lw_all := lw_g (lw_at lw_m3 0 rfl) rfl
theorem q572 : (Jvm.Cond.instanceMethod ({ cls := "TermsDesk", name := "snapshot", desc := "()I" } : Jvm.MethodName)) ∈ lw_all := lw_g (lw_at lw_m3 24 rfl) rfl
theorem q573 : (Jvm.Cond.selects "TermsDesk" ({ cls := "TermsDesk", name := "snapshot", desc := "()I" } : Jvm.MethodName) ({ cls := "TermsDesk", name := "snapshot", desc := "()I" } : Jvm.MethodName)) ∈ lw_all := lw_g (lw_at lw_m3 25 rfl) rfl
theorem q574 : (Jvm.Cond.code ({ cls := "TermsDesk", name := "snapshot", desc := "()I" } : Jvm.MethodName) prog_1_method_55_code (1 : Nat) (Option.some Jvm.ClassFile.FieldType.int)) ∈ lw_all := lw_g (lw_at lw_m3 26 rfl) rfl
theorem q575 : (Jvm.Cond.methodLink "TermsDesk" (90 : Nat) ({ cls := "TermsDesk$Desk", name := "copy", desc := "()LTermsDesk$Desk;" } : Jvm.MethodName)) ∈ lw_all := lw_g (lw_at lw_m3 27 rfl) rfl
theorem q659 : (Jvm.Cond.fieldLinkNest "TermsDesk" (267 : Nat) "TermsDesk$Licence" "permits" "I" "TermsDesk") ∈ lw_tbl := lw_at lw_m3 111 rfl
theorem q662 : (Jvm.Cond.fieldLinkNest "TermsDesk" (270 : Nat) "TermsDesk$Licence" "bars" "I" "TermsDesk") ∈ lw_tbl := lw_at lw_m3 114 rfl
theorem q665 : (Jvm.Cond.fieldLinkNest "TermsDesk" (273 : Nat) "TermsDesk$Licence" "reach" "I" "TermsDesk") ∈ lw_tbl := lw_at lw_m3 117 rfl
theorem q668 : (Jvm.Cond.fieldLinkNest "TermsDesk" (263 : Nat) "TermsDesk$Licence" "demands" "J" "TermsDesk") ∈ lw_tbl := lw_at lw_m3 120 rfl
theorem q683 : (Jvm.Cond.static ({ cls := "TermsDesk", name := "checkState", desc := "(Z)V" } : Jvm.MethodName)) ∈ lw_all := lw_g (lw_at lw_m3 135 rfl) rfl
theorem q684 : (Jvm.Cond.code ({ cls := "TermsDesk", name := "checkState", desc := "(Z)V" } : Jvm.MethodName) prog_1_method_4_code (1 : Nat) (Option.none : Option Jvm.ClassFile.FieldType)) ∈ lw_all := lw_g (lw_at lw_m3 136 rfl) rfl
theorem q685 : (Jvm.Cond.classLink "TermsDesk" (10 : Nat) "java/lang/IllegalStateException") ∈ lw_all := lw_g (lw_at lw_m3 137 rfl) rfl
theorem q694 : (Jvm.Cond.methodLink "TermsDesk" (12 : Nat) ({ cls := "java/lang/IllegalStateException", name := "<init>", desc := "()V" } : Jvm.MethodName)) ∈ lw_all := lw_g (lw_at lw_m3 146 rfl) rfl
theorem q732 : (Jvm.Cond.selects "TermsDesk" ({ cls := "java/lang/Object", name := "getClass", desc := "()Ljava/lang/Class;" } : Jvm.MethodName) ({ cls := "java/lang/Object", name := "getClass", desc := "()Ljava/lang/Class;" } : Jvm.MethodName)) ∈ lw_all := lw_g (lw_at lw_m3 184 rfl) rfl
theorem q787 : (Jvm.Cond.fieldLinkNest "TermsDesk" (288 : Nat) "TermsDesk$Source" "first" "I" "TermsDesk") ∈ lw_tbl := lw_at lw_m3 239 rfl
theorem q789 : (Jvm.Cond.fieldLinkNest "TermsDesk" (291 : Nat) "TermsDesk$Source" "second" "I" "TermsDesk") ∈ lw_tbl := lw_at lw_m4 1 rfl
theorem q792 : (Jvm.Cond.fieldLinkNest "TermsDesk" (294 : Nat) "TermsDesk$Source" "size" "I" "TermsDesk") ∈ lw_tbl := lw_at lw_m4 4 rfl
theorem q817 : (Jvm.Cond.fieldLinkNest "TermsDesk" (300 : Nat) "TermsDesk$Work" "files" "I" "TermsDesk") ∈ lw_tbl := lw_at lw_m4 29 rfl
theorem q820 : (Jvm.Cond.fieldLinkNest "TermsDesk" (305 : Nat) "TermsDesk$Work" "links" "I" "TermsDesk") ∈ lw_tbl := lw_at lw_m4 32 rfl
theorem q823 : (Jvm.Cond.fieldLinkNest "TermsDesk" (310 : Nat) "TermsDesk$Work" "shipped" "I" "TermsDesk") ∈ lw_tbl := lw_at lw_m4 35 rfl
theorem q826 : (Jvm.Cond.fieldLinkNest "TermsDesk" (239 : Nat) "TermsDesk$Work" "notice" "Ljava/lang/String;" "TermsDesk") ∈ lw_tbl := lw_at lw_m4 38 rfl
theorem q842 : (Jvm.Cond.instanceMethod ({ cls := "TermsDesk", name := "addLicence", desc := "(III)I" } : Jvm.MethodName)) ∈ lw_all := lw_g (lw_at lw_m4 54 rfl) rfl
theorem q843 : (Jvm.Cond.selects "TermsDesk" ({ cls := "TermsDesk", name := "addLicence", desc := "(III)I" } : Jvm.MethodName) ({ cls := "TermsDesk", name := "addLicence", desc := "(III)I" } : Jvm.MethodName)) ∈ lw_all := lw_g (lw_at lw_m4 55 rfl) rfl
theorem q844 : (Jvm.Cond.code ({ cls := "TermsDesk", name := "addLicence", desc := "(III)I" } : Jvm.MethodName) prog_1_method_14_code (6 : Nat) (Option.some Jvm.ClassFile.FieldType.int)) ∈ lw_all := lw_g (lw_at lw_m4 56 rfl) rfl
theorem q845 : (Jvm.Cond.methodLink "TermsDesk" (80 : Nat) ({ cls := "TermsDesk", name := "isSet", desc := "(II)Z" } : Jvm.MethodName)) ∈ lw_all := lw_g (lw_at lw_m4 57 rfl) rfl
theorem q846 : (Jvm.Cond.static ({ cls := "TermsDesk", name := "isSet", desc := "(II)Z" } : Jvm.MethodName)) ∈ lw_all := lw_g (lw_at lw_m4 58 rfl) rfl
theorem q847 : (Jvm.Cond.code ({ cls := "TermsDesk", name := "isSet", desc := "(II)Z" } : Jvm.MethodName) prog_1_method_8_code (2 : Nat) (Option.some Jvm.ClassFile.FieldType.boolean)) ∈ lw_all := lw_g (lw_at lw_m4 59 rfl) rfl
theorem q848 : (Jvm.Cond.constantLong "TermsDesk" (84 : Nat) (2 : Int64)) ∈ lw_all := lw_g (lw_at lw_m4 60 rfl) rfl
theorem q849 : (Jvm.Cond.methodLink "TermsDesk" (86 : Nat) ({ cls := "TermsDesk", name := "inRange", desc := "(JJJ)Z" } : Jvm.MethodName)) ∈ lw_all := lw_g (lw_at lw_m4 61 rfl) rfl
theorem q850 : (Jvm.Cond.methodLink "TermsDesk" (21 : Nat) ({ cls := "TermsDesk", name := "checkArgument", desc := "(Z)V" } : Jvm.MethodName)) ∈ lw_all := lw_g (lw_at lw_m4 62 rfl) rfl
theorem q851 : (Jvm.Cond.static ({ cls := "TermsDesk", name := "checkArgument", desc := "(Z)V" } : Jvm.MethodName)) ∈ lw_all := lw_g (lw_at lw_m4 63 rfl) rfl
theorem q852 : (Jvm.Cond.code ({ cls := "TermsDesk", name := "checkArgument", desc := "(Z)V" } : Jvm.MethodName) prog_1_method_2_code (1 : Nat) (Option.none : Option Jvm.ClassFile.FieldType)) ∈ lw_all := lw_g (lw_at lw_m4 64 rfl) rfl
theorem q853 : (Jvm.Cond.classLink "TermsDesk" (1 : Nat) "java/lang/IllegalArgumentException") ∈ lw_all := lw_g (lw_at lw_m4 65 rfl) rfl
theorem q862 : (Jvm.Cond.methodLink "TermsDesk" (3 : Nat) ({ cls := "java/lang/IllegalArgumentException", name := "<init>", desc := "()V" } : Jvm.MethodName)) ∈ lw_all := lw_g (lw_at lw_m4 74 rfl) rfl
theorem q868 : (Jvm.Cond.classLink "TermsDesk" (97 : Nat) "TermsDesk$Licence") ∈ lw_all := lw_g (lw_at lw_m4 80 rfl) rfl
theorem q869 : (Jvm.Cond.methodLink "TermsDesk" (99 : Nat) ({ cls := "TermsDesk$Licence", name := "<init>", desc := "(III)V" } : Jvm.MethodName)) ∈ lw_all := lw_g (lw_at lw_m4 81 rfl) rfl
theorem q870 : (Jvm.Cond.methodLink "TermsDesk" (102 : Nat) ({ cls := "TermsDesk$Shelf", name := "add", desc := "(Ljava/lang/Object;)I" } : Jvm.MethodName)) ∈ lw_all := lw_g (lw_at lw_m4 82 rfl) rfl
theorem q871 : (Jvm.Cond.methodLink "TermsDesk" (106 : Nat) ({ cls := "TermsDesk", name := "keep", desc := "(LTermsDesk$Desk;)V" } : Jvm.MethodName)) ∈ lw_all := lw_g (lw_at lw_m4 83 rfl) rfl
theorem q872 : (Jvm.Cond.privateMethod ({ cls := "TermsDesk", name := "keep", desc := "(LTermsDesk$Desk;)V" } : Jvm.MethodName)) ∈ lw_tbl := lw_at lw_m4 84 rfl
theorem q873 : (Jvm.Cond.instanceMethod ({ cls := "TermsDesk", name := "keep", desc := "(LTermsDesk$Desk;)V" } : Jvm.MethodName)) ∈ lw_all := lw_g (lw_at lw_m4 85 rfl) rfl
theorem q874 : (Jvm.Cond.code ({ cls := "TermsDesk", name := "keep", desc := "(LTermsDesk$Desk;)V" } : Jvm.MethodName) prog_1_method_12_code (3 : Nat) (Option.none : Option Jvm.ClassFile.FieldType)) ∈ lw_all := lw_g (lw_at lw_m4 86 rfl) rfl
theorem q875 : (Jvm.Cond.methodLink "TermsDesk" (58 : Nat) ({ cls := "java/util/ArrayDeque", name := "size", desc := "()I" } : Jvm.MethodName)) ∈ lw_all := lw_g (lw_at lw_m4 87 rfl) rfl
theorem q882 : (Jvm.Cond.methodLink "TermsDesk" (62 : Nat) ({ cls := "java/util/ArrayDeque", name := "removeFirst", desc := "()Ljava/lang/Object;" } : Jvm.MethodName)) ∈ lw_all := lw_g (lw_at lw_m4 94 rfl) rfl
theorem q898 : (Jvm.Cond.methodLink "TermsDesk" (66 : Nat) ({ cls := "java/util/ArrayDeque", name := "addLast", desc := "(Ljava/lang/Object;)V" } : Jvm.MethodName)) ∈ lw_all := lw_g (lw_at lw_m4 110 rfl) rfl
theorem q956 : (Jvm.Cond.instanceMethod ({ cls := "TermsDesk", name := "demand", desc := "(III)I" } : Jvm.MethodName)) ∈ lw_all := lw_g (lw_at lw_m4 168 rfl) rfl
theorem q957 : (Jvm.Cond.selects "TermsDesk" ({ cls := "TermsDesk", name := "demand", desc := "(III)I" } : Jvm.MethodName) ({ cls := "TermsDesk", name := "demand", desc := "(III)I" } : Jvm.MethodName)) ∈ lw_all := lw_g (lw_at lw_m4 169 rfl) rfl
theorem q958 : (Jvm.Cond.code ({ cls := "TermsDesk", name := "demand", desc := "(III)I" } : Jvm.MethodName) prog_1_method_15_code (5 : Nat) (Option.some Jvm.ClassFile.FieldType.int)) ∈ lw_all := lw_g (lw_at lw_m4 170 rfl) rfl
theorem q959 : (Jvm.Cond.methodLink "TermsDesk" (110 : Nat) ({ cls := "TermsDesk", name := "licenceAt", desc := "(I)LTermsDesk$Licence;" } : Jvm.MethodName)) ∈ lw_all := lw_g (lw_at lw_m4 171 rfl) rfl
theorem q960 : (Jvm.Cond.privateMethod ({ cls := "TermsDesk", name := "licenceAt", desc := "(I)LTermsDesk$Licence;" } : Jvm.MethodName)) ∈ lw_tbl := lw_at lw_m4 172 rfl
theorem q961 : (Jvm.Cond.instanceMethod ({ cls := "TermsDesk", name := "licenceAt", desc := "(I)LTermsDesk$Licence;" } : Jvm.MethodName)) ∈ lw_all := lw_g (lw_at lw_m4 173 rfl) rfl
theorem q962 : (Jvm.Cond.code ({ cls := "TermsDesk", name := "licenceAt", desc := "(I)LTermsDesk$Licence;" } : Jvm.MethodName) prog_1_method_22_code (2 : Nat) (Option.some (Jvm.ClassFile.FieldType.object "TermsDesk$Licence"))) ∈ lw_all := lw_g (lw_at lw_m4 174 rfl) rfl
theorem q963 : (Jvm.Cond.methodLink "TermsDesk" (116 : Nat) ({ cls := "TermsDesk", name := "checkIndex", desc := "(Z)V" } : Jvm.MethodName)) ∈ lw_all := lw_g (lw_at lw_m4 175 rfl) rfl
theorem q964 : (Jvm.Cond.methodLink "TermsDesk" (159 : Nat) ({ cls := "TermsDesk$Shelf", name := "get", desc := "(I)Ljava/lang/Object;" } : Jvm.MethodName)) ∈ lw_all := lw_g (lw_at lw_m4 176 rfl) rfl
theorem q965 : (Jvm.Cond.constantLong "TermsDesk" (114 : Nat) (4 : Int64)) ∈ lw_all := lw_g (lw_at lw_m4 177 rfl) rfl
theorem q966 : (Jvm.Cond.methodLink "TermsDesk" (119 : Nat) ({ cls := "TermsDesk$Licence", name := "demand", desc := "(II)I" } : Jvm.MethodName)) ∈ lw_all := lw_g (lw_at lw_m4 178 rfl) rfl
theorem q977 : (Jvm.Cond.instanceMethod ({ cls := "TermsDesk", name := "addFile", desc := "(III)I" } : Jvm.MethodName)) ∈ lw_all := lw_g (lw_at lw_m4 189 rfl) rfl
theorem q978 : (Jvm.Cond.selects "TermsDesk" ({ cls := "TermsDesk", name := "addFile", desc := "(III)I" } : Jvm.MethodName) ({ cls := "TermsDesk", name := "addFile", desc := "(III)I" } : Jvm.MethodName)) ∈ lw_all := lw_g (lw_at lw_m4 190 rfl) rfl
theorem q979 : (Jvm.Cond.code ({ cls := "TermsDesk", name := "addFile", desc := "(III)I" } : Jvm.MethodName) prog_1_method_17_code (6 : Nat) (Option.some Jvm.ClassFile.FieldType.int)) ∈ lw_all := lw_g (lw_at lw_m4 191 rfl) rfl
theorem q980 : (Jvm.Cond.methodLink "TermsDesk" (130 : Nat) ({ cls := "TermsDesk", name := "addFile", desc := "(LTermsDesk$Desk;III)I" } : Jvm.MethodName)) ∈ lw_all := lw_g (lw_at lw_m4 192 rfl) rfl
theorem q981 : (Jvm.Cond.static ({ cls := "TermsDesk", name := "addFile", desc := "(LTermsDesk$Desk;III)I" } : Jvm.MethodName)) ∈ lw_all := lw_g (lw_at lw_m4 193 rfl) rfl
theorem q982 : (Jvm.Cond.code ({ cls := "TermsDesk", name := "addFile", desc := "(LTermsDesk$Desk;III)I" } : Jvm.MethodName) prog_1_method_16_code (5 : Nat) (Option.some Jvm.ClassFile.FieldType.int)) ∈ lw_all := lw_g (lw_at lw_m4 194 rfl) rfl
theorem q983 : (Jvm.Cond.constantLong "TermsDesk" (123 : Nat) (-1 : Int64)) ∈ lw_all := lw_g (lw_at lw_m4 195 rfl) rfl
theorem q984 : (Jvm.Cond.constantLong "TermsDesk" (125 : Nat) (99 : Int64)) ∈ lw_all := lw_g (lw_at lw_m4 196 rfl) rfl
theorem q985 : (Jvm.Cond.classLink "TermsDesk" (127 : Nat) "TermsDesk$Source") ∈ lw_all := lw_g (lw_at lw_m4 197 rfl) rfl
theorem q986 : (Jvm.Cond.methodLink "TermsDesk" (129 : Nat) ({ cls := "TermsDesk$Source", name := "<init>", desc := "(III)V" } : Jvm.MethodName)) ∈ lw_all := lw_g (lw_at lw_m4 198 rfl) rfl
theorem q991 : (Jvm.Cond.instanceMethod ({ cls := "TermsDesk", name := "flip", desc := "(I)I" } : Jvm.MethodName)) ∈ lw_all := lw_g (lw_at lw_m4 203 rfl) rfl
theorem q992 : (Jvm.Cond.selects "TermsDesk" ({ cls := "TermsDesk", name := "flip", desc := "(I)I" } : Jvm.MethodName) ({ cls := "TermsDesk", name := "flip", desc := "(I)I" } : Jvm.MethodName)) ∈ lw_all := lw_g (lw_at lw_m4 204 rfl) rfl
theorem q993 : (Jvm.Cond.code ({ cls := "TermsDesk", name := "flip", desc := "(I)I" } : Jvm.MethodName) prog_1_method_18_code (5 : Nat) (Option.some Jvm.ClassFile.FieldType.int)) ∈ lw_all := lw_g (lw_at lw_m4 205 rfl) rfl
theorem q994 : (Jvm.Cond.methodLink "TermsDesk" (134 : Nat) ({ cls := "TermsDesk", name := "fileAt", desc := "(I)LTermsDesk$Source;" } : Jvm.MethodName)) ∈ lw_all := lw_g (lw_at lw_m4 206 rfl) rfl
theorem q995 : (Jvm.Cond.privateMethod ({ cls := "TermsDesk", name := "fileAt", desc := "(I)LTermsDesk$Source;" } : Jvm.MethodName)) ∈ lw_tbl := lw_at lw_m4 207 rfl
theorem q996 : (Jvm.Cond.instanceMethod ({ cls := "TermsDesk", name := "fileAt", desc := "(I)LTermsDesk$Source;" } : Jvm.MethodName)) ∈ lw_all := lw_g (lw_at lw_m4 208 rfl) rfl
theorem q997 : (Jvm.Cond.code ({ cls := "TermsDesk", name := "fileAt", desc := "(I)LTermsDesk$Source;" } : Jvm.MethodName) prog_1_method_23_code (2 : Nat) (Option.some (Jvm.ClassFile.FieldType.object "TermsDesk$Source"))) ∈ lw_all := lw_g (lw_at lw_m4 209 rfl) rfl
theorem q998 : (Jvm.Cond.methodLink "TermsDesk" (138 : Nat) ({ cls := "TermsDesk$Desk", name := "flip", desc := "(I)I" } : Jvm.MethodName)) ∈ lw_all := lw_g (lw_at lw_m4 210 rfl) rfl
theorem q1012 : (Jvm.Cond.instanceMethod ({ cls := "TermsDesk", name := "addWork", desc := "()I" } : Jvm.MethodName)) ∈ lw_all := lw_g (lw_at lw_m4 224 rfl) rfl
theorem q1013 : (Jvm.Cond.selects "TermsDesk" ({ cls := "TermsDesk", name := "addWork", desc := "()I" } : Jvm.MethodName) ({ cls := "TermsDesk", name := "addWork", desc := "()I" } : Jvm.MethodName)) ∈ lw_all := lw_g (lw_at lw_m4 225 rfl) rfl
theorem q1014 : (Jvm.Cond.code ({ cls := "TermsDesk", name := "addWork", desc := "()I" } : Jvm.MethodName) prog_1_method_19_code (3 : Nat) (Option.some Jvm.ClassFile.FieldType.int)) ∈ lw_all := lw_g (lw_at lw_m4 226 rfl) rfl
theorem q1015 : (Jvm.Cond.classLink "TermsDesk" (145 : Nat) "TermsDesk$Work") ∈ lw_all := lw_g (lw_at lw_m4 227 rfl) rfl
theorem q1016 : (Jvm.Cond.methodLinkNest "TermsDesk" (147 : Nat) ({ cls := "TermsDesk$Work", name := "<init>", desc := "()V" } : Jvm.MethodName) "TermsDesk") ∈ lw_tbl := lw_at lw_m4 228 rfl
theorem q1021 : (Jvm.Cond.instanceMethod ({ cls := "TermsDesk", name := "join", desc := "(IIZ)Z" } : Jvm.MethodName)) ∈ lw_all := lw_g (lw_at lw_m4 233 rfl) rfl
theorem q1022 : (Jvm.Cond.selects "TermsDesk" ({ cls := "TermsDesk", name := "join", desc := "(IIZ)Z" } : Jvm.MethodName) ({ cls := "TermsDesk", name := "join", desc := "(IIZ)Z" } : Jvm.MethodName)) ∈ lw_all := lw_g (lw_at lw_m4 234 rfl) rfl
theorem q1023 : (Jvm.Cond.code ({ cls := "TermsDesk", name := "join", desc := "(IIZ)Z" } : Jvm.MethodName) prog_1_method_20_code (6 : Nat) (Option.some Jvm.ClassFile.FieldType.boolean)) ∈ lw_all := lw_g (lw_at lw_m4 235 rfl) rfl
theorem q1024 : (Jvm.Cond.methodLink "TermsDesk" (148 : Nat) ({ cls := "TermsDesk", name := "workAt", desc := "(I)LTermsDesk$Work;" } : Jvm.MethodName)) ∈ lw_all := lw_g (lw_at lw_m4 236 rfl) rfl
theorem q1025 : (Jvm.Cond.privateMethod ({ cls := "TermsDesk", name := "workAt", desc := "(I)LTermsDesk$Work;" } : Jvm.MethodName)) ∈ lw_tbl := lw_at lw_m4 237 rfl
theorem q1026 : (Jvm.Cond.instanceMethod ({ cls := "TermsDesk", name := "workAt", desc := "(I)LTermsDesk$Work;" } : Jvm.MethodName)) ∈ lw_all := lw_g (lw_at lw_m4 238 rfl) rfl
theorem q1027 : (Jvm.Cond.code ({ cls := "TermsDesk", name := "workAt", desc := "(I)LTermsDesk$Work;" } : Jvm.MethodName) prog_1_method_24_code (2 : Nat) (Option.some (Jvm.ClassFile.FieldType.object "TermsDesk$Work"))) ∈ lw_all := lw_g (lw_at lw_m4 239 rfl) rfl
theorem q1028 : (Jvm.Cond.methodLink "TermsDesk" (152 : Nat) ({ cls := "TermsDesk$Desk", name := "join", desc := "(IIZ)Z" } : Jvm.MethodName)) ∈ lw_all := lw_g (lw_at lw_m5 0 rfl) rfl
theorem q1036 : (Jvm.Cond.instanceMethod ({ cls := "TermsDesk", name := "link", desc := "(IIZ)Z" } : Jvm.MethodName)) ∈ lw_all := lw_g (lw_at lw_m5 8 rfl) rfl
theorem q1037 : (Jvm.Cond.selects "TermsDesk" ({ cls := "TermsDesk", name := "link", desc := "(IIZ)Z" } : Jvm.MethodName) ({ cls := "TermsDesk", name := "link", desc := "(IIZ)Z" } : Jvm.MethodName)) ∈ lw_all := lw_g (lw_at lw_m5 9 rfl) rfl
theorem q1038 : (Jvm.Cond.code ({ cls := "TermsDesk", name := "link", desc := "(IIZ)Z" } : Jvm.MethodName) prog_1_method_21_code (8 : Nat) (Option.some Jvm.ClassFile.FieldType.boolean)) ∈ lw_all := lw_g (lw_at lw_m5 10 rfl) rfl
theorem q1039 : (Jvm.Cond.methodLink "TermsDesk" (156 : Nat) ({ cls := "TermsDesk$Desk", name := "link", desc := "(IIZ)Z" } : Jvm.MethodName)) ∈ lw_all := lw_g (lw_at lw_m5 11 rfl) rfl
theorem q1048 : (Jvm.Cond.instanceMethod ({ cls := "TermsDesk", name := "clashes", desc := "(II)I" } : Jvm.MethodName)) ∈ lw_all := lw_g (lw_at lw_m5 20 rfl) rfl
theorem q1049 : (Jvm.Cond.selects "TermsDesk" ({ cls := "TermsDesk", name := "clashes", desc := "(II)I" } : Jvm.MethodName) ({ cls := "TermsDesk", name := "clashes", desc := "(II)I" } : Jvm.MethodName)) ∈ lw_all := lw_g (lw_at lw_m5 21 rfl) rfl
theorem q1050 : (Jvm.Cond.code ({ cls := "TermsDesk", name := "clashes", desc := "(II)I" } : Jvm.MethodName) prog_1_method_26_code (3 : Nat) (Option.some Jvm.ClassFile.FieldType.int)) ∈ lw_all := lw_g (lw_at lw_m5 22 rfl) rfl
theorem q1051 : (Jvm.Cond.methodLink "TermsDesk" (171 : Nat) ({ cls := "TermsDesk", name := "deedOf", desc := "(II)LTermsDesk$Deed;" } : Jvm.MethodName)) ∈ lw_all := lw_g (lw_at lw_m5 23 rfl) rfl
theorem q1052 : (Jvm.Cond.privateMethod ({ cls := "TermsDesk", name := "deedOf", desc := "(II)LTermsDesk$Deed;" } : Jvm.MethodName)) ∈ lw_tbl := lw_at lw_m5 24 rfl
theorem q1053 : (Jvm.Cond.instanceMethod ({ cls := "TermsDesk", name := "deedOf", desc := "(II)LTermsDesk$Deed;" } : Jvm.MethodName)) ∈ lw_all := lw_g (lw_at lw_m5 25 rfl) rfl
theorem q1054 : (Jvm.Cond.code ({ cls := "TermsDesk", name := "deedOf", desc := "(II)LTermsDesk$Deed;" } : Jvm.MethodName) prog_1_method_25_code (4 : Nat) (Option.some (Jvm.ClassFile.FieldType.object "TermsDesk$Deed"))) ∈ lw_all := lw_g (lw_at lw_m5 26 rfl) rfl
theorem q1055 : (Jvm.Cond.methodLink "TermsDesk" (163 : Nat) ({ cls := "TermsDesk", name := "checkAct", desc := "(I)V" } : Jvm.MethodName)) ∈ lw_all := lw_g (lw_at lw_m5 27 rfl) rfl
theorem q1056 : (Jvm.Cond.static ({ cls := "TermsDesk", name := "checkAct", desc := "(I)V" } : Jvm.MethodName)) ∈ lw_all := lw_g (lw_at lw_m5 28 rfl) rfl
theorem q1057 : (Jvm.Cond.code ({ cls := "TermsDesk", name := "checkAct", desc := "(I)V" } : Jvm.MethodName) prog_1_method_9_code (1 : Nat) (Option.none : Option Jvm.ClassFile.FieldType)) ∈ lw_all := lw_g (lw_at lw_m5 29 rfl) rfl
theorem q1058 : (Jvm.Cond.methodLink "TermsDesk" (167 : Nat) ({ cls := "TermsDesk$Desk", name := "deed", desc := "(II)LTermsDesk$Deed;" } : Jvm.MethodName)) ∈ lw_all := lw_g (lw_at lw_m5 30 rfl) rfl
theorem q1059 : (Jvm.Cond.methodLink "TermsDesk" (174 : Nat) ({ cls := "TermsDesk$Deed", name := "clashes", desc := "()I" } : Jvm.MethodName)) ∈ lw_all := lw_g (lw_at lw_m5 31 rfl) rfl
theorem q1069 : (Jvm.Cond.instanceMethod ({ cls := "TermsDesk", name := "clash", desc := "(IIII)I" } : Jvm.MethodName)) ∈ lw_all := lw_g (lw_at lw_m5 41 rfl) rfl
theorem q1070 : (Jvm.Cond.selects "TermsDesk" ({ cls := "TermsDesk", name := "clash", desc := "(IIII)I" } : Jvm.MethodName) ({ cls := "TermsDesk", name := "clash", desc := "(IIII)I" } : Jvm.MethodName)) ∈ lw_all := lw_g (lw_at lw_m5 42 rfl) rfl
theorem q1071 : (Jvm.Cond.code ({ cls := "TermsDesk", name := "clash", desc := "(IIII)I" } : Jvm.MethodName) prog_1_method_27_code (6 : Nat) (Option.some Jvm.ClassFile.FieldType.int)) ∈ lw_all := lw_g (lw_at lw_m5 43 rfl) rfl
theorem q1072 : (Jvm.Cond.constantLong "TermsDesk" (179 : Nat) (3 : Int64)) ∈ lw_all := lw_g (lw_at lw_m5 44 rfl) rfl
theorem q1073 : (Jvm.Cond.methodLink "TermsDesk" (181 : Nat) ({ cls := "TermsDesk$Deed", name := "clash", desc := "(I)LTermsDesk$Clash;" } : Jvm.MethodName)) ∈ lw_all := lw_g (lw_at lw_m5 45 rfl) rfl
theorem q1078 : (Jvm.Cond.static ({ cls := "TermsDesk", name := "checkElement", desc := "(Z)V" } : Jvm.MethodName)) ∈ lw_all := lw_g (lw_at lw_m5 50 rfl) rfl
theorem q1079 : (Jvm.Cond.code ({ cls := "TermsDesk", name := "checkElement", desc := "(Z)V" } : Jvm.MethodName) prog_1_method_5_code (1 : Nat) (Option.none : Option Jvm.ClassFile.FieldType)) ∈ lw_all := lw_g (lw_at lw_m5 51 rfl) rfl
theorem q1080 : (Jvm.Cond.classLink "TermsDesk" (13 : Nat) "java/util/NoSuchElementException") ∈ lw_all := lw_g (lw_at lw_m5 52 rfl) rfl
theorem q1081 : (Jvm.Cond.methodLink "TermsDesk" (15 : Nat) ({ cls := "java/util/NoSuchElementException", name := "<init>", desc := "()V" } : Jvm.MethodName)) ∈ lw_all := lw_g (lw_at lw_m5 53 rfl) rfl
theorem q1082 : (Jvm.Cond.methodLink "TermsDesk" (185 : Nat) ({ cls := "TermsDesk$Clash", name := "number", desc := "(I)I" } : Jvm.MethodName)) ∈ lw_all := lw_g (lw_at lw_m5 54 rfl) rfl
theorem q1090 : (Jvm.Cond.instanceMethod ({ cls := "TermsDesk", name := "due", desc := "(III)I" } : Jvm.MethodName)) ∈ lw_all := lw_g (lw_at lw_m5 62 rfl) rfl
theorem q1091 : (Jvm.Cond.selects "TermsDesk" ({ cls := "TermsDesk", name := "due", desc := "(III)I" } : Jvm.MethodName) ({ cls := "TermsDesk", name := "due", desc := "(III)I" } : Jvm.MethodName)) ∈ lw_all := lw_g (lw_at lw_m5 63 rfl) rfl
theorem q1092 : (Jvm.Cond.code ({ cls := "TermsDesk", name := "due", desc := "(III)I" } : Jvm.MethodName) prog_1_method_28_code (7 : Nat) (Option.some Jvm.ClassFile.FieldType.int)) ∈ lw_all := lw_g (lw_at lw_m5 64 rfl) rfl
theorem q1093 : (Jvm.Cond.methodLink "TermsDesk" (190 : Nat) ({ cls := "TermsDesk$Deed", name := "files", desc := "()I" } : Jvm.MethodName)) ∈ lw_all := lw_g (lw_at lw_m5 65 rfl) rfl
theorem q1094 : (Jvm.Cond.methodLink "TermsDesk" (192 : Nat) ({ cls := "TermsDesk", name := "has", desc := "(II)Z" } : Jvm.MethodName)) ∈ lw_all := lw_g (lw_at lw_m5 66 rfl) rfl
theorem q1095 : (Jvm.Cond.methodLink "TermsDesk" (195 : Nat) ({ cls := "TermsDesk", name := "checkElement", desc := "(Z)V" } : Jvm.MethodName)) ∈ lw_all := lw_g (lw_at lw_m5 67 rfl) rfl
theorem q1096 : (Jvm.Cond.methodLink "TermsDesk" (198 : Nat) ({ cls := "TermsDesk$Deed", name := "due", desc := "()I" } : Jvm.MethodName)) ∈ lw_all := lw_g (lw_at lw_m5 68 rfl) rfl
theorem q1100 : (Jvm.Cond.methodLink "TermsDesk" (201 : Nat) ({ cls := "TermsDesk$Deed", name := "due", desc := "(I)I" } : Jvm.MethodName)) ∈ lw_all := lw_g (lw_at lw_m5 72 rfl) rfl
theorem q1105 : (Jvm.Cond.instanceMethod ({ cls := "TermsDesk", name := "least", desc := "(II)I" } : Jvm.MethodName)) ∈ lw_all := lw_g (lw_at lw_m5 77 rfl) rfl
theorem q1106 : (Jvm.Cond.selects "TermsDesk" ({ cls := "TermsDesk", name := "least", desc := "(II)I" } : Jvm.MethodName) ({ cls := "TermsDesk", name := "least", desc := "(II)I" } : Jvm.MethodName)) ∈ lw_all := lw_g (lw_at lw_m5 78 rfl) rfl
theorem q1107 : (Jvm.Cond.code ({ cls := "TermsDesk", name := "least", desc := "(II)I" } : Jvm.MethodName) prog_1_method_29_code (3 : Nat) (Option.some Jvm.ClassFile.FieldType.int)) ∈ lw_all := lw_g (lw_at lw_m5 79 rfl) rfl
theorem q1108 : (Jvm.Cond.methodLink "TermsDesk" (203 : Nat) ({ cls := "TermsDesk$Deed", name := "least", desc := "()I" } : Jvm.MethodName)) ∈ lw_all := lw_g (lw_at lw_m5 80 rfl) rfl
theorem q1113 : (Jvm.Cond.instanceMethod ({ cls := "TermsDesk", name := "remove", desc := "(II)I" } : Jvm.MethodName)) ∈ lw_all := lw_g (lw_at lw_m5 85 rfl) rfl
theorem q1114 : (Jvm.Cond.selects "TermsDesk" ({ cls := "TermsDesk", name := "remove", desc := "(II)I" } : Jvm.MethodName) ({ cls := "TermsDesk", name := "remove", desc := "(II)I" } : Jvm.MethodName)) ∈ lw_all := lw_g (lw_at lw_m5 86 rfl) rfl
theorem q1115 : (Jvm.Cond.code ({ cls := "TermsDesk", name := "remove", desc := "(II)I" } : Jvm.MethodName) prog_1_method_30_code (4 : Nat) (Option.some Jvm.ClassFile.FieldType.int)) ∈ lw_all := lw_g (lw_at lw_m5 87 rfl) rfl
theorem q1116 : (Jvm.Cond.methodLink "TermsDesk" (206 : Nat) ({ cls := "TermsDesk$Desk", name := "remove", desc := "(II)I" } : Jvm.MethodName)) ∈ lw_all := lw_g (lw_at lw_m5 88 rfl) rfl
theorem q1125 : (Jvm.Cond.instanceMethod ({ cls := "TermsDesk", name := "choice", desc := "(II)I" } : Jvm.MethodName)) ∈ lw_all := lw_g (lw_at lw_m5 97 rfl) rfl
theorem q1126 : (Jvm.Cond.selects "TermsDesk" ({ cls := "TermsDesk", name := "choice", desc := "(II)I" } : Jvm.MethodName) ({ cls := "TermsDesk", name := "choice", desc := "(II)I" } : Jvm.MethodName)) ∈ lw_all := lw_g (lw_at lw_m5 98 rfl) rfl
theorem q1127 : (Jvm.Cond.code ({ cls := "TermsDesk", name := "choice", desc := "(II)I" } : Jvm.MethodName) prog_1_method_31_code (4 : Nat) (Option.some Jvm.ClassFile.FieldType.int)) ∈ lw_all := lw_g (lw_at lw_m5 99 rfl) rfl
theorem q1128 : (Jvm.Cond.methodLink "TermsDesk" (209 : Nat) ({ cls := "TermsDesk$Desk", name := "choice", desc := "(II)LTermsDesk$Choice;" } : Jvm.MethodName)) ∈ lw_all := lw_g (lw_at lw_m5 100 rfl) rfl
theorem q1160 : (Jvm.Cond.fieldLinkNest "TermsDesk" (213 : Nat) "TermsDesk$Choice" "set" "I" "TermsDesk") ∈ lw_tbl := lw_at lw_m5 132 rfl
theorem q1405 : (Jvm.Cond.instanceMethod ({ cls := "TermsDesk", name := "choose", desc := "(II)I" } : Jvm.MethodName)) ∈ lw_all := lw_g (lw_at lw_m6 137 rfl) rfl
theorem q1406 : (Jvm.Cond.selects "TermsDesk" ({ cls := "TermsDesk", name := "choose", desc := "(II)I" } : Jvm.MethodName) ({ cls := "TermsDesk", name := "choose", desc := "(II)I" } : Jvm.MethodName)) ∈ lw_all := lw_g (lw_at lw_m6 138 rfl) rfl
theorem q1407 : (Jvm.Cond.code ({ cls := "TermsDesk", name := "choose", desc := "(II)I" } : Jvm.MethodName) prog_1_method_32_code (4 : Nat) (Option.some Jvm.ClassFile.FieldType.int)) ∈ lw_all := lw_g (lw_at lw_m6 139 rfl) rfl
theorem q1408 : (Jvm.Cond.methodLink "TermsDesk" (218 : Nat) ({ cls := "TermsDesk$Desk", name := "choose", desc := "(II)I" } : Jvm.MethodName)) ∈ lw_all := lw_g (lw_at lw_m6 140 rfl) rfl
theorem q1418 : (Jvm.Cond.instanceMethod ({ cls := "TermsDesk", name := "ship", desc := "(I)I" } : Jvm.MethodName)) ∈ lw_all := lw_g (lw_at lw_m6 150 rfl) rfl
theorem q1419 : (Jvm.Cond.selects "TermsDesk" ({ cls := "TermsDesk", name := "ship", desc := "(I)I" } : Jvm.MethodName) ({ cls := "TermsDesk", name := "ship", desc := "(I)I" } : Jvm.MethodName)) ∈ lw_all := lw_g (lw_at lw_m6 151 rfl) rfl
theorem q1420 : (Jvm.Cond.codeWith ({ cls := "TermsDesk", name := "ship", desc := "(I)I" } : Jvm.MethodName) prog_1_method_33_code (5 : Nat) (Option.some Jvm.ClassFile.FieldType.int) [((14 : Nat), (31 : Nat), (32 : Nat), (224 : Nat))]) ∈ lw_all := lw_g (lw_at lw_m6 152 rfl) rfl
theorem q1421 : (Jvm.Cond.classLink "TermsDesk" (224 : Nat) "TermsDesk$Refused") ∈ lw_all := lw_g (lw_at lw_m6 153 rfl) rfl
theorem q1422 : (Jvm.Cond.methodLink "TermsDesk" (221 : Nat) ({ cls := "TermsDesk$Desk", name := "ship", desc := "(I)I" } : Jvm.MethodName)) ∈ lw_all := lw_g (lw_at lw_m6 154 rfl) rfl
theorem q1451 : (Jvm.Cond.fieldLinkNest "TermsDesk" (226 : Nat) "TermsDesk$Refused" "chain" "[I" "TermsDesk") ∈ lw_tbl := lw_at lw_m6 183 rfl
theorem q1651 : (Jvm.Cond.classLink "TermsDesk" (231 : Nat) "java/lang/UnsupportedOperationException") ∈ lw_all := lw_g (lw_at lw_m7 143 rfl) rfl
theorem q1660 : (Jvm.Cond.methodLink "TermsDesk" (233 : Nat) ({ cls := "java/lang/UnsupportedOperationException", name := "<init>", desc := "()V" } : Jvm.MethodName)) ∈ lw_all := lw_g (lw_at lw_m7 152 rfl) rfl
theorem q1670 : (Jvm.Cond.instanceMethod ({ cls := "TermsDesk", name := "refusal", desc := "(I)I" } : Jvm.MethodName)) ∈ lw_all := lw_g (lw_at lw_m7 162 rfl) rfl
theorem q1671 : (Jvm.Cond.selects "TermsDesk" ({ cls := "TermsDesk", name := "refusal", desc := "(I)I" } : Jvm.MethodName) ({ cls := "TermsDesk", name := "refusal", desc := "(I)I" } : Jvm.MethodName)) ∈ lw_all := lw_g (lw_at lw_m7 163 rfl) rfl
theorem q1672 : (Jvm.Cond.codeWith ({ cls := "TermsDesk", name := "refusal", desc := "(I)I" } : Jvm.MethodName) prog_1_method_34_code (3 : Nat) (Option.some Jvm.ClassFile.FieldType.int) [((15 : Nat), (21 : Nat), (22 : Nat), (237 : Nat))]) ∈ lw_all := lw_g (lw_at lw_m7 164 rfl) rfl
theorem q1673 : (Jvm.Cond.classLink "TermsDesk" (237 : Nat) "java/lang/ArrayIndexOutOfBoundsException") ∈ lw_all := lw_g (lw_at lw_m7 165 rfl) rfl
theorem q1674 : (Jvm.Cond.methodLink "TermsDesk" (234 : Nat) ({ cls := "TermsDesk", name := "checkState", desc := "(Z)V" } : Jvm.MethodName)) ∈ lw_all := lw_g (lw_at lw_m7 166 rfl) rfl
theorem q1679 : (Jvm.Cond.instanceMethod ({ cls := "TermsDesk", name := "notice", desc := "(II)C" } : Jvm.MethodName)) ∈ lw_all := lw_g (lw_at lw_m7 171 rfl) rfl
theorem q1680 : (Jvm.Cond.selects "TermsDesk" ({ cls := "TermsDesk", name := "notice", desc := "(II)C" } : Jvm.MethodName) ({ cls := "TermsDesk", name := "notice", desc := "(II)C" } : Jvm.MethodName)) ∈ lw_all := lw_g (lw_at lw_m7 172 rfl) rfl
theorem q1681 : (Jvm.Cond.code ({ cls := "TermsDesk", name := "notice", desc := "(II)C" } : Jvm.MethodName) prog_1_method_35_code (4 : Nat) (Option.some Jvm.ClassFile.FieldType.char)) ∈ lw_all := lw_g (lw_at lw_m7 173 rfl) rfl
theorem q1682 : (Jvm.Cond.methodLink "TermsDesk" (243 : Nat) ({ cls := "java/lang/String", name := "length", desc := "()I" } : Jvm.MethodName)) ∈ lw_all := lw_g (lw_at lw_m7 174 rfl) rfl
theorem q1683 : (Jvm.Cond.methodLink "TermsDesk" (248 : Nat) ({ cls := "java/lang/String", name := "charAt", desc := "(I)C" } : Jvm.MethodName)) ∈ lw_all := lw_g (lw_at lw_m7 175 rfl) rfl
theorem q1709 : (Jvm.Cond.instanceMethod ({ cls := "TermsDesk", name := "desk", desc := "(I)I" } : Jvm.MethodName)) ∈ lw_all := lw_g (lw_at lw_m7 201 rfl) rfl
theorem q1710 : (Jvm.Cond.selects "TermsDesk" ({ cls := "TermsDesk", name := "desk", desc := "(I)I" } : Jvm.MethodName) ({ cls := "TermsDesk", name := "desk", desc := "(I)I" } : Jvm.MethodName)) ∈ lw_all := lw_g (lw_at lw_m7 202 rfl) rfl
theorem q1711 : (Jvm.Cond.code ({ cls := "TermsDesk", name := "desk", desc := "(I)I" } : Jvm.MethodName) prog_1_method_36_code (2 : Nat) (Option.some Jvm.ClassFile.FieldType.int)) ∈ lw_all := lw_g (lw_at lw_m7 203 rfl) rfl
theorem q1712 : (Jvm.Cond.methodLink "TermsDesk" (252 : Nat) ({ cls := "TermsDesk$Desk", name := "sizes", desc := "(I)I" } : Jvm.MethodName)) ∈ lw_all := lw_g (lw_at lw_m7 204 rfl) rfl
theorem q1716 : (Jvm.Cond.methodLink "TermsDesk" (255 : Nat) ({ cls := "TermsDesk$Desk", name := "withChoice", desc := "(Z)I" } : Jvm.MethodName)) ∈ lw_all := lw_g (lw_at lw_m7 208 rfl) rfl
theorem q1720 : (Jvm.Cond.methodLink "TermsDesk" (259 : Nat) ({ cls := "TermsDesk$Desk", name := "shippings", desc := "(Z)I" } : Jvm.MethodName)) ∈ lw_all := lw_g (lw_at lw_m7 212 rfl) rfl
theorem q1725 : (Jvm.Cond.methodLink "TermsDesk" (262 : Nat) ({ cls := "java/lang/StringBuilder", name := "length", desc := "()I" } : Jvm.MethodName)) ∈ lw_all := lw_g (lw_at lw_m7 217 rfl) rfl
theorem q1730 : (Jvm.Cond.instanceMethod ({ cls := "TermsDesk", name := "demands", desc := "(I)J" } : Jvm.MethodName)) ∈ lw_all := lw_g (lw_at lw_m7 222 rfl) rfl
theorem q1731 : (Jvm.Cond.selects "TermsDesk" ({ cls := "TermsDesk", name := "demands", desc := "(I)J" } : Jvm.MethodName) ({ cls := "TermsDesk", name := "demands", desc := "(I)J" } : Jvm.MethodName)) ∈ lw_all := lw_g (lw_at lw_m7 223 rfl) rfl
theorem q1732 : (Jvm.Cond.code ({ cls := "TermsDesk", name := "demands", desc := "(I)J" } : Jvm.MethodName) prog_1_method_37_code (2 : Nat) (Option.some Jvm.ClassFile.FieldType.long)) ∈ lw_all := lw_g (lw_at lw_m7 224 rfl) rfl
theorem q1737 : (Jvm.Cond.instanceMethod ({ cls := "TermsDesk", name := "licence", desc := "(II)I" } : Jvm.MethodName)) ∈ lw_all := lw_g (lw_at lw_m7 229 rfl) rfl
theorem q1738 : (Jvm.Cond.selects "TermsDesk" ({ cls := "TermsDesk", name := "licence", desc := "(II)I" } : Jvm.MethodName) ({ cls := "TermsDesk", name := "licence", desc := "(II)I" } : Jvm.MethodName)) ∈ lw_all := lw_g (lw_at lw_m7 230 rfl) rfl
theorem q1739 : (Jvm.Cond.code ({ cls := "TermsDesk", name := "licence", desc := "(II)I" } : Jvm.MethodName) prog_1_method_38_code (4 : Nat) (Option.some Jvm.ClassFile.FieldType.int)) ∈ lw_all := lw_g (lw_at lw_m7 231 rfl) rfl
theorem q1740 : (Jvm.Cond.methodLink "TermsDesk" (276 : Nat) ({ cls := "TermsDesk$Desk", name := "taken", desc := "(I)I" } : Jvm.MethodName)) ∈ lw_all := lw_g (lw_at lw_m7 232 rfl) rfl
theorem q1741 : (Jvm.Cond.methodLink "TermsDesk" (279 : Nat) ({ cls := "java/lang/Long", name := "bitCount", desc := "(J)I" } : Jvm.MethodName)) ∈ lw_all := lw_g (lw_at lw_m7 233 rfl) rfl
theorem q1751 : (Jvm.Cond.instanceMethod ({ cls := "TermsDesk", name := "file", desc := "(II)I" } : Jvm.MethodName)) ∈ lw_all := lw_g (lw_at lw_m8 3 rfl) rfl
theorem q1752 : (Jvm.Cond.selects "TermsDesk" ({ cls := "TermsDesk", name := "file", desc := "(II)I" } : Jvm.MethodName) ({ cls := "TermsDesk", name := "file", desc := "(II)I" } : Jvm.MethodName)) ∈ lw_all := lw_g (lw_at lw_m8 4 rfl) rfl
theorem q1753 : (Jvm.Cond.code ({ cls := "TermsDesk", name := "file", desc := "(II)I" } : Jvm.MethodName) prog_1_method_39_code (4 : Nat) (Option.some Jvm.ClassFile.FieldType.int)) ∈ lw_all := lw_g (lw_at lw_m8 5 rfl) rfl
theorem q1754 : (Jvm.Cond.methodLink "TermsDesk" (285 : Nat) ({ cls := "TermsDesk$Source", name := "licence", desc := "()I" } : Jvm.MethodName)) ∈ lw_all := lw_g (lw_at lw_m8 6 rfl) rfl
theorem q1755 : (Jvm.Cond.methodLink "TermsDesk" (296 : Nat) ({ cls := "TermsDesk$Desk", name := "worksWith", desc := "(IZ)I" } : Jvm.MethodName)) ∈ lw_all := lw_g (lw_at lw_m8 7 rfl) rfl
theorem q1763 : (Jvm.Cond.instanceMethod ({ cls := "TermsDesk", name := "work", desc := "(II)I" } : Jvm.MethodName)) ∈ lw_all := lw_g (lw_at lw_m8 15 rfl) rfl
theorem q1764 : (Jvm.Cond.selects "TermsDesk" ({ cls := "TermsDesk", name := "work", desc := "(II)I" } : Jvm.MethodName) ({ cls := "TermsDesk", name := "work", desc := "(II)I" } : Jvm.MethodName)) ∈ lw_all := lw_g (lw_at lw_m8 16 rfl) rfl
theorem q1765 : (Jvm.Cond.code ({ cls := "TermsDesk", name := "work", desc := "(II)I" } : Jvm.MethodName) prog_1_method_40_code (4 : Nat) (Option.some Jvm.ClassFile.FieldType.int)) ∈ lw_all := lw_g (lw_at lw_m8 17 rfl) rfl
theorem q1766 : (Jvm.Cond.methodLink "TermsDesk" (302 : Nat) ({ cls := "TermsDesk$Desk", name := "far", desc := "(I)I" } : Jvm.MethodName)) ∈ lw_all := lw_g (lw_at lw_m8 18 rfl) rfl
theorem q1767 : (Jvm.Cond.methodLink "TermsDesk" (308 : Nat) ({ cls := "TermsDesk$Desk", name := "reach", desc := "(I)I" } : Jvm.MethodName)) ∈ lw_all := lw_g (lw_at lw_m8 19 rfl) rfl
theorem q1768 : (Jvm.Cond.methodLink "TermsDesk" (313 : Nat) ({ cls := "TermsDesk$Desk", name := "reached", desc := "(I)I" } : Jvm.MethodName)) ∈ lw_all := lw_g (lw_at lw_m8 20 rfl) rfl
theorem q1773 : (Jvm.Cond.instanceMethod ({ cls := "TermsDesk", name := "links", desc := "(II)I" } : Jvm.MethodName)) ∈ lw_all := lw_g (lw_at lw_m8 25 rfl) rfl
theorem q1774 : (Jvm.Cond.selects "TermsDesk" ({ cls := "TermsDesk", name := "links", desc := "(II)I" } : Jvm.MethodName) ({ cls := "TermsDesk", name := "links", desc := "(II)I" } : Jvm.MethodName)) ∈ lw_all := lw_g (lw_at lw_m8 26 rfl) rfl
theorem q1775 : (Jvm.Cond.code ({ cls := "TermsDesk", name := "links", desc := "(II)I" } : Jvm.MethodName) prog_1_method_41_code (5 : Nat) (Option.some Jvm.ClassFile.FieldType.int)) ∈ lw_all := lw_g (lw_at lw_m8 27 rfl) rfl
theorem q1776 : (Jvm.Cond.methodLink "TermsDesk" (316 : Nat) ({ cls := "TermsDesk$Desk", name := "links", desc := "(II)I" } : Jvm.MethodName)) ∈ lw_all := lw_g (lw_at lw_m8 28 rfl) rfl
theorem q1798 : (Jvm.Cond.instanceMethod ({ cls := "TermsDesk", name := "meanSize", desc := "(I)D" } : Jvm.MethodName)) ∈ lw_all := lw_g (lw_at lw_m8 50 rfl) rfl
theorem q1799 : (Jvm.Cond.selects "TermsDesk" ({ cls := "TermsDesk", name := "meanSize", desc := "(I)D" } : Jvm.MethodName) ({ cls := "TermsDesk", name := "meanSize", desc := "(I)D" } : Jvm.MethodName)) ∈ lw_all := lw_g (lw_at lw_m8 51 rfl) rfl
theorem q1800 : (Jvm.Cond.code ({ cls := "TermsDesk", name := "meanSize", desc := "(I)D" } : Jvm.MethodName) prog_1_method_42_code (4 : Nat) (Option.some Jvm.ClassFile.FieldType.double)) ∈ lw_all := lw_g (lw_at lw_m8 52 rfl) rfl
theorem q1801 : (Jvm.Cond.methodLink "TermsDesk" (318 : Nat) ({ cls := "TermsDesk", name := "checkNumbers", desc := "(Z)V" } : Jvm.MethodName)) ∈ lw_all := lw_g (lw_at lw_m8 53 rfl) rfl
theorem q1802 : (Jvm.Cond.static ({ cls := "TermsDesk", name := "checkNumbers", desc := "(Z)V" } : Jvm.MethodName)) ∈ lw_all := lw_g (lw_at lw_m8 54 rfl) rfl
theorem q1803 : (Jvm.Cond.code ({ cls := "TermsDesk", name := "checkNumbers", desc := "(Z)V" } : Jvm.MethodName) prog_1_method_6_code (1 : Nat) (Option.none : Option Jvm.ClassFile.FieldType)) ∈ lw_all := lw_g (lw_at lw_m8 55 rfl) rfl
theorem q1804 : (Jvm.Cond.classLink "TermsDesk" (16 : Nat) "java/lang/ArithmeticException") ∈ lw_all := lw_g (lw_at lw_m8 56 rfl) rfl
theorem q1805 : (Jvm.Cond.methodLink "TermsDesk" (18 : Nat) ({ cls := "java/lang/ArithmeticException", name := "<init>", desc := "()V" } : Jvm.MethodName)) ∈ lw_all := lw_g (lw_at lw_m8 57 rfl) rfl
theorem q1809 : (Jvm.Cond.methodLink "TermsDesk" (321 : Nat) ({ cls := "java/lang/Integer", name := "bitCount", desc := "(I)I" } : Jvm.MethodName)) ∈ lw_all := lw_g (lw_at lw_m8 61 rfl) rfl
theorem q1814 : (Jvm.Cond.instanceMethod ({ cls := "TermsDesk", name := "share", desc := "(I)F" } : Jvm.MethodName)) ∈ lw_all := lw_g (lw_at lw_m8 66 rfl) rfl
theorem q1815 : (Jvm.Cond.selects "TermsDesk" ({ cls := "TermsDesk", name := "share", desc := "(I)F" } : Jvm.MethodName) ({ cls := "TermsDesk", name := "share", desc := "(I)F" } : Jvm.MethodName)) ∈ lw_all := lw_g (lw_at lw_m8 67 rfl) rfl
theorem q1816 : (Jvm.Cond.code ({ cls := "TermsDesk", name := "share", desc := "(I)F" } : Jvm.MethodName) prog_1_method_43_code (5 : Nat) (Option.some Jvm.ClassFile.FieldType.float)) ∈ lw_all := lw_g (lw_at lw_m8 68 rfl) rfl
theorem q1817 : (Jvm.Cond.methodLink "TermsDesk" (325 : Nat) ({ cls := "TermsDesk$Shelf", name := "iterator", desc := "()Ljava/util/Iterator;" } : Jvm.MethodName)) ∈ lw_all := lw_g (lw_at lw_m8 69 rfl) rfl
theorem q1818 : (Jvm.Cond.interfaceEntry "TermsDesk" (329 : Nat)) ∈ lw_tbl := lw_at lw_m8 70 rfl
theorem q1819 : (Jvm.Cond.methodLink "TermsDesk" (329 : Nat) ({ cls := "java/util/Iterator", name := "hasNext", desc := "()Z" } : Jvm.MethodName)) ∈ lw_all := lw_g (lw_at lw_m8 71 rfl) rfl
theorem q1820 : (Jvm.Cond.interfaceEntry "TermsDesk" (335 : Nat)) ∈ lw_tbl := lw_at lw_m8 72 rfl
theorem q1821 : (Jvm.Cond.methodLink "TermsDesk" (335 : Nat) ({ cls := "java/util/Iterator", name := "next", desc := "()Ljava/lang/Object;" } : Jvm.MethodName)) ∈ lw_all := lw_g (lw_at lw_m8 73 rfl) rfl
theorem q1826 : (Jvm.Cond.instanceMethod ({ cls := "TermsDesk", name := "store", desc := "(I)I" } : Jvm.MethodName)) ∈ lw_all := lw_g (lw_at lw_m8 78 rfl) rfl
theorem q1827 : (Jvm.Cond.selects "TermsDesk" ({ cls := "TermsDesk", name := "store", desc := "(I)I" } : Jvm.MethodName) ({ cls := "TermsDesk", name := "store", desc := "(I)I" } : Jvm.MethodName)) ∈ lw_all := lw_g (lw_at lw_m8 79 rfl) rfl
theorem q1828 : (Jvm.Cond.code ({ cls := "TermsDesk", name := "store", desc := "(I)I" } : Jvm.MethodName) prog_1_method_46_code (5 : Nat) (Option.some Jvm.ClassFile.FieldType.int)) ∈ lw_all := lw_g (lw_at lw_m8 80 rfl) rfl
theorem q1829 : (Jvm.Cond.methodLink "TermsDesk" (341 : Nat) ({ cls := "TermsDesk", name := "rowAt", desc := "(I)[J" } : Jvm.MethodName)) ∈ lw_all := lw_g (lw_at lw_m8 81 rfl) rfl
theorem q1830 : (Jvm.Cond.privateMethod ({ cls := "TermsDesk", name := "rowAt", desc := "(I)[J" } : Jvm.MethodName)) ∈ lw_tbl := lw_at lw_m8 82 rfl
theorem q1831 : (Jvm.Cond.instanceMethod ({ cls := "TermsDesk", name := "rowAt", desc := "(I)[J" } : Jvm.MethodName)) ∈ lw_all := lw_g (lw_at lw_m8 83 rfl) rfl
theorem q1832 : (Jvm.Cond.codeWith ({ cls := "TermsDesk", name := "rowAt", desc := "(I)[J" } : Jvm.MethodName) prog_1_method_45_code (3 : Nat) (Option.some (Jvm.ClassFile.FieldType.array Jvm.ClassFile.FieldType.long)) [((0 : Nat), (6 : Nat), (7 : Nat), (237 : Nat))]) ∈ lw_all := lw_g (lw_at lw_m8 84 rfl) rfl
theorem q1833 : (Jvm.Cond.methodLink "TermsDesk" (345 : Nat) ({ cls := "TermsDesk$Desk", name := "duesOf", desc := "(I)J" } : Jvm.MethodName)) ∈ lw_all := lw_g (lw_at lw_m8 85 rfl) rfl
theorem q1842 : (Jvm.Cond.instanceMethod ({ cls := "TermsDesk", name := "mix", desc := "(III)I" } : Jvm.MethodName)) ∈ lw_all := lw_g (lw_at lw_m8 94 rfl) rfl
theorem q1843 : (Jvm.Cond.selects "TermsDesk" ({ cls := "TermsDesk", name := "mix", desc := "(III)I" } : Jvm.MethodName) ({ cls := "TermsDesk", name := "mix", desc := "(III)I" } : Jvm.MethodName)) ∈ lw_all := lw_g (lw_at lw_m8 95 rfl) rfl
theorem q1844 : (Jvm.Cond.code ({ cls := "TermsDesk", name := "mix", desc := "(III)I" } : Jvm.MethodName) prog_1_method_47_code (8 : Nat) (Option.some Jvm.ClassFile.FieldType.int)) ∈ lw_all := lw_g (lw_at lw_m8 96 rfl) rfl
theorem q1845 : (Jvm.Cond.constantLong "TermsDesk" (349 : Nat) (50 : Int64)) ∈ lw_all := lw_g (lw_at lw_m8 97 rfl) rfl
theorem q1846 : (Jvm.Cond.methodLink "TermsDesk" (351 : Nat) ({ cls := "java/lang/Math", name := "min", desc := "(II)I" } : Jvm.MethodName)) ∈ lw_all := lw_g (lw_at lw_m8 98 rfl) rfl
theorem q1851 : (Jvm.Cond.instanceMethod ({ cls := "TermsDesk", name := "element", desc := "(II)J" } : Jvm.MethodName)) ∈ lw_all := lw_g (lw_at lw_m8 103 rfl) rfl
theorem q1852 : (Jvm.Cond.selects "TermsDesk" ({ cls := "TermsDesk", name := "element", desc := "(II)J" } : Jvm.MethodName) ({ cls := "TermsDesk", name := "element", desc := "(II)J" } : Jvm.MethodName)) ∈ lw_all := lw_g (lw_at lw_m8 104 rfl) rfl
theorem q1853 : (Jvm.Cond.codeWith ({ cls := "TermsDesk", name := "element", desc := "(II)J" } : Jvm.MethodName) prog_1_method_48_code (5 : Nat) (Option.some Jvm.ClassFile.FieldType.long) [((6 : Nat), (9 : Nat), (10 : Nat), (237 : Nat))]) ∈ lw_all := lw_g (lw_at lw_m8 105 rfl) rfl
theorem q1858 : (Jvm.Cond.instanceMethod ({ cls := "TermsDesk", name := "append", desc := "(I)I" } : Jvm.MethodName)) ∈ lw_all := lw_g (lw_at lw_m8 110 rfl) rfl
theorem q1859 : (Jvm.Cond.selects "TermsDesk" ({ cls := "TermsDesk", name := "append", desc := "(I)I" } : Jvm.MethodName) ({ cls := "TermsDesk", name := "append", desc := "(I)I" } : Jvm.MethodName)) ∈ lw_all := lw_g (lw_at lw_m8 111 rfl) rfl
theorem q1860 : (Jvm.Cond.code ({ cls := "TermsDesk", name := "append", desc := "(I)I" } : Jvm.MethodName) prog_1_method_49_code (5 : Nat) (Option.some Jvm.ClassFile.FieldType.int)) ∈ lw_all := lw_g (lw_at lw_m8 112 rfl) rfl
theorem q1861 : (Jvm.Cond.constantLong "TermsDesk" (356 : Nat) (32 : Int64)) ∈ lw_all := lw_g (lw_at lw_m8 113 rfl) rfl
theorem q1862 : (Jvm.Cond.constantLong "TermsDesk" (358 : Nat) (126 : Int64)) ∈ lw_all := lw_g (lw_at lw_m8 114 rfl) rfl
theorem q1863 : (Jvm.Cond.methodLink "TermsDesk" (360 : Nat) ({ cls := "java/lang/StringBuilder", name := "append", desc := "(C)Ljava/lang/StringBuilder;" } : Jvm.MethodName)) ∈ lw_all := lw_g (lw_at lw_m8 115 rfl) rfl
theorem q1880 : (Jvm.Cond.instanceMethod ({ cls := "TermsDesk", name := "read", desc := "()I" } : Jvm.MethodName)) ∈ lw_all := lw_g (lw_at lw_m8 132 rfl) rfl
theorem q1881 : (Jvm.Cond.selects "TermsDesk" ({ cls := "TermsDesk", name := "read", desc := "()I" } : Jvm.MethodName) ({ cls := "TermsDesk", name := "read", desc := "()I" } : Jvm.MethodName)) ∈ lw_all := lw_g (lw_at lw_m8 133 rfl) rfl
theorem q1882 : (Jvm.Cond.codeWith ({ cls := "TermsDesk", name := "read", desc := "()I" } : Jvm.MethodName) prog_1_method_51_code (7 : Nat) (Option.some Jvm.ClassFile.FieldType.int) [((15 : Nat), (57 : Nat), (60 : Nat), (224 : Nat)), ((15 : Nat), (57 : Nat), (84 : Nat), (7 : Nat)), ((15 : Nat), (57 : Nat), (84 : Nat), (10 : Nat)), ((15 : Nat), (57 : Nat), (84 : Nat), (1 : Nat))]) ∈ lw_all := lw_g (lw_at lw_m8 134 rfl) rfl
theorem q1883 : (Jvm.Cond.methodLink "TermsDesk" (379 : Nat) ({ cls := "TermsDesk", name := "takeItems", desc := "()Ljava/util/ArrayList;" } : Jvm.MethodName)) ∈ lw_all := lw_g (lw_at lw_m8 135 rfl) rfl
theorem q1884 : (Jvm.Cond.privateMethod ({ cls := "TermsDesk", name := "takeItems", desc := "()Ljava/util/ArrayList;" } : Jvm.MethodName)) ∈ lw_tbl := lw_at lw_m8 136 rfl
theorem q1885 : (Jvm.Cond.instanceMethod ({ cls := "TermsDesk", name := "takeItems", desc := "()Ljava/util/ArrayList;" } : Jvm.MethodName)) ∈ lw_all := lw_g (lw_at lw_m8 137 rfl) rfl
theorem q1886 : (Jvm.Cond.codeWith ({ cls := "TermsDesk", name := "takeItems", desc := "()Ljava/util/ArrayList;" } : Jvm.MethodName) prog_1_method_50_code (3 : Nat) (Option.some (Jvm.ClassFile.FieldType.object "java/util/ArrayList")) [((23 : Nat), (27 : Nat), (28 : Nat), (373 : Nat))]) ∈ lw_all := lw_g (lw_at lw_m8 138 rfl) rfl
theorem q1887 : (Jvm.Cond.classLink "TermsDesk" (373 : Nat) "TermsDesk$SyntaxException") ∈ lw_all := lw_g (lw_at lw_m8 139 rfl) rfl
theorem q1888 : (Jvm.Cond.classLink "TermsDesk" (364 : Nat) "TermsDesk$Parser") ∈ lw_all := lw_g (lw_at lw_m8 140 rfl) rfl
theorem q1890 : (Jvm.Cond.methodLink "TermsDesk" (366 : Nat) ({ cls := "TermsDesk$Parser", name := "<init>", desc := "(Ljava/lang/CharSequence;)V" } : Jvm.MethodName)) ∈ lw_all := lw_g (lw_at lw_m8 142 rfl) rfl
theorem q1901 : (Jvm.Cond.methodLink "TermsDesk" (369 : Nat) ({ cls := "TermsDesk$Parser", name := "items", desc := "()Ljava/util/ArrayList;" } : Jvm.MethodName)) ∈ lw_all := lw_g (lw_at lw_m8 153 rfl) rfl
theorem q1964 : (Jvm.Cond.fieldLinkNest "TermsDesk" (391 : Nat) "TermsDesk$SyntaxException" "position" "I" "TermsDesk") ∈ lw_tbl := lw_at lw_m8 216 rfl
theorem q1994 : (Jvm.Cond.methodLink "TermsDesk" (382 : Nat) ({ cls := "java/util/ArrayList", name := "iterator", desc := "()Ljava/util/Iterator;" } : Jvm.MethodName)) ∈ lw_all := lw_g (lw_at lw_m9 6 rfl) rfl
theorem q1995 : (Jvm.Cond.classLink "TermsDesk" (385 : Nat) "TermsDesk$Item") ∈ lw_all := lw_g (lw_at lw_m9 7 rfl) rfl
theorem q1996 : (Jvm.Cond.methodLink "TermsDesk" (387 : Nat) ({ cls := "TermsDesk$Item", name := "carryOut", desc := "(LTermsDesk$Desk;)I" } : Jvm.MethodName)) ∈ lw_all := lw_g (lw_at lw_m9 8 rfl) rfl
theorem q2013 : (Jvm.Cond.instanceMethod ({ cls := "TermsDesk", name := "errorPosition", desc := "()I" } : Jvm.MethodName)) ∈ lw_all := lw_g (lw_at lw_m9 25 rfl) rfl
theorem q2014 : (Jvm.Cond.selects "TermsDesk" ({ cls := "TermsDesk", name := "errorPosition", desc := "()I" } : Jvm.MethodName) ({ cls := "TermsDesk", name := "errorPosition", desc := "()I" } : Jvm.MethodName)) ∈ lw_all := lw_g (lw_at lw_m9 26 rfl) rfl
theorem q2015 : (Jvm.Cond.code ({ cls := "TermsDesk", name := "errorPosition", desc := "()I" } : Jvm.MethodName) prog_1_method_52_code (1 : Nat) (Option.some Jvm.ClassFile.FieldType.int)) ∈ lw_all := lw_g (lw_at lw_m9 27 rfl) rfl
theorem q2020 : (Jvm.Cond.instanceMethod ({ cls := "TermsDesk", name := "refusedItem", desc := "()I" } : Jvm.MethodName)) ∈ lw_all := lw_g (lw_at lw_m9 32 rfl) rfl
theorem q2021 : (Jvm.Cond.selects "TermsDesk" ({ cls := "TermsDesk", name := "refusedItem", desc := "()I" } : Jvm.MethodName) ({ cls := "TermsDesk", name := "refusedItem", desc := "()I" } : Jvm.MethodName)) ∈ lw_all := lw_g (lw_at lw_m9 33 rfl) rfl
theorem q2022 : (Jvm.Cond.code ({ cls := "TermsDesk", name := "refusedItem", desc := "()I" } : Jvm.MethodName) prog_1_method_53_code (1 : Nat) (Option.some Jvm.ClassFile.FieldType.int)) ∈ lw_all := lw_g (lw_at lw_m9 34 rfl) rfl
theorem q2027 : (Jvm.Cond.instanceMethod ({ cls := "TermsDesk", name := "undo", desc := "()I" } : Jvm.MethodName)) ∈ lw_all := lw_g (lw_at lw_m9 39 rfl) rfl
theorem q2028 : (Jvm.Cond.selects "TermsDesk" ({ cls := "TermsDesk", name := "undo", desc := "()I" } : Jvm.MethodName) ({ cls := "TermsDesk", name := "undo", desc := "()I" } : Jvm.MethodName)) ∈ lw_all := lw_g (lw_at lw_m9 40 rfl) rfl
theorem q2029 : (Jvm.Cond.code ({ cls := "TermsDesk", name := "undo", desc := "()I" } : Jvm.MethodName) prog_1_method_54_code (1 : Nat) (Option.some Jvm.ClassFile.FieldType.int)) ∈ lw_all := lw_g (lw_at lw_m9 41 rfl) rfl
theorem q2030 : (Jvm.Cond.methodLink "TermsDesk" (394 : Nat) ({ cls := "java/util/ArrayDeque", name := "isEmpty", desc := "()Z" } : Jvm.MethodName)) ∈ lw_all := lw_g (lw_at lw_m9 42 rfl) rfl
theorem q2034 : (Jvm.Cond.methodLink "TermsDesk" (397 : Nat) ({ cls := "java/util/ArrayDeque", name := "removeLast", desc := "()Ljava/lang/Object;" } : Jvm.MethodName)) ∈ lw_all := lw_g (lw_at lw_m9 46 rfl) rfl
theorem q2049 : (Jvm.Cond.instanceMethod ({ cls := "TermsDesk", name := "restore", desc := "()I" } : Jvm.MethodName)) ∈ lw_all := lw_g (lw_at lw_m9 61 rfl) rfl
theorem q2050 : (Jvm.Cond.selects "TermsDesk" ({ cls := "TermsDesk", name := "restore", desc := "()I" } : Jvm.MethodName) ({ cls := "TermsDesk", name := "restore", desc := "()I" } : Jvm.MethodName)) ∈ lw_all := lw_g (lw_at lw_m9 62 rfl) rfl
theorem q2051 : (Jvm.Cond.code ({ cls := "TermsDesk", name := "restore", desc := "()I" } : Jvm.MethodName) prog_1_method_56_code (1 : Nat) (Option.some Jvm.ClassFile.FieldType.int)) ∈ lw_all := lw_g (lw_at lw_m9 63 rfl) rfl
theorem q2481 : (Jvm.Cond.castable "TermsDesk" "java/lang/Object") ∈ lw_tbl := lw_at lw_m11 13 rfl
theorem in_X1 : ∀ w ∈ wsX10, w ∈ lw_all := lw_in wsX10 [249, 251, 253, 255, 257, 259, 261, 263] (by decide +kernel) (by decide +kernel)
