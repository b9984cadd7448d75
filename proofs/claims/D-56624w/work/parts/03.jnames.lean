set_option maxRecDepth 100000

/-! java/util/BitSet -/
set_option maxRecDepth 100000
def RJ0 : String := "java/util/BitSet"
def TJ0 : u_T := fun k => match k with
  | 0 => ("java/util/BitSet", "words", "[J", false)
  | 1 => ("java/util/BitSet", "wordsInUse", "I", false)
  | _ => ("java/util/BitSet", "sizeIsSticky", "Z", false)
def tyJ0 : Nat → FieldType := fun k => match k with
  | 0 => .array .long
  | 1 => .int
  | _ => .boolean
abbrev wsJ00 : List Cond := u_ws RJ0 TJ0 3
theorem nmJ0 : ∀ a, a < 3 → ∀ b, b < 3 → a ≠ b → (TJ0 a).2.1 ≠ (TJ0 b).2.1 := by decide +kernel
theorem tyJ0_ok : ∀ k, k < 3 → parseFieldDescriptor (TJ0 k).2.2.1 = some (tyJ0 k) := by decide +kernel
abbrev cJ0_init : ByteArray := prog_60_method_5_code
def yJ0_init : MethodName := ⟨RJ0, "<init>", "(I)V"⟩
def dkwJ0_init_2 : List UInt8 := [27, 182, 0, 27, 42, 4, 181, 0, 24, 177]
abbrev dktJ0_init_2 : List UInt8 := dkwJ0_init_2 ++ []
def dkwJ0_init_1 : List UInt8 := [187, 0, 33, 89, 183, 0, 35, 18, 36, 182, 0, 38, 27, 182, 0, 42, 182, 0, 45, 183, 0, 49, 191, 42]
abbrev dktJ0_init_1 : List UInt8 := dkwJ0_init_1 ++ dktJ0_init_2
def dkwJ0_init_0 : List UInt8 := [42, 183, 0, 21, 42, 3, 181, 0, 7, 42, 3, 181, 0, 24, 27, 156, 0, 30, 187, 0, 31, 89]
abbrev dktJ0_init_0 : List UInt8 := dkwJ0_init_0 ++ dktJ0_init_1
theorem dksJ0_init_0 : cJ0_init.data.toList.drop 0 = dktJ0_init_0 := by decide +kernel
theorem dksJ0_init_1 : cJ0_init.data.toList.drop 22 = dktJ0_init_1 := dk_seg dksJ0_init_0 22 rfl rfl
theorem dksJ0_init_2 : cJ0_init.data.toList.drop 46 = dktJ0_init_2 := dk_seg dksJ0_init_1 24 rfl rfl
theorem dJ0_init_0 : decode cJ0_init 0 = .ok (.aload_n 0, 1) := dk_42 (dk_at dksJ0_init_0 0 rfl rfl)
theorem dJ0_init_1 : decode cJ0_init 1 = .ok (.invokespecial 21, 3) := dk_183 0 21 (dk_at dksJ0_init_0 1 rfl rfl)
theorem dJ0_init_4 : decode cJ0_init 4 = .ok (.aload_n 0, 1) := dk_42 (dk_at dksJ0_init_0 4 rfl rfl)
theorem dJ0_init_5 : decode cJ0_init 5 = .ok (.iconst 0, 1) := dk_3 (dk_at dksJ0_init_0 5 rfl rfl)
theorem dJ0_init_6 : decode cJ0_init 6 = .ok (.putfield 7, 3) := dk_181 0 7 (dk_at dksJ0_init_0 6 rfl rfl)
theorem dJ0_init_9 : decode cJ0_init 9 = .ok (.aload_n 0, 1) := dk_42 (dk_at dksJ0_init_0 9 rfl rfl)
theorem dJ0_init_10 : decode cJ0_init 10 = .ok (.iconst 0, 1) := dk_3 (dk_at dksJ0_init_0 10 rfl rfl)
theorem dJ0_init_11 : decode cJ0_init 11 = .ok (.putfield 24, 3) := dk_181 0 24 (dk_at dksJ0_init_0 11 rfl rfl)
theorem dJ0_init_14 : decode cJ0_init 14 = .ok (.iload_n 1, 1) := dk_27 (dk_at dksJ0_init_0 14 rfl rfl)
theorem dJ0_init_15 : decode cJ0_init 15 = .ok (.ifCond .ge 30, 3) := dk_156 0 30 (dk_at dksJ0_init_0 15 rfl rfl)
theorem dJ0_init_18 : decode cJ0_init 18 = .ok (.new 31, 3) := dk_187 0 31 (dk_at dksJ0_init_0 18 rfl rfl)
theorem dJ0_init_21 : decode cJ0_init 21 = .ok (.dup, 1) := dk_89 (dk_at dksJ0_init_0 21 rfl rfl)
theorem dJ0_init_22 : decode cJ0_init 22 = .ok (.new 33, 3) := dk_187 0 33 (dk_at dksJ0_init_1 0 rfl rfl)
theorem dJ0_init_25 : decode cJ0_init 25 = .ok (.dup, 1) := dk_89 (dk_at dksJ0_init_1 3 rfl rfl)
theorem dJ0_init_26 : decode cJ0_init 26 = .ok (.invokespecial 35, 3) := dk_183 0 35 (dk_at dksJ0_init_1 4 rfl rfl)
theorem dJ0_init_29 : decode cJ0_init 29 = .ok (.ldc 36, 2) := dk_18 36 (dk_at dksJ0_init_1 7 rfl rfl)
theorem dJ0_init_31 : decode cJ0_init 31 = .ok (.invokevirtual 38, 3) := dk_182 0 38 (dk_at dksJ0_init_1 9 rfl rfl)
theorem dJ0_init_34 : decode cJ0_init 34 = .ok (.iload_n 1, 1) := dk_27 (dk_at dksJ0_init_1 12 rfl rfl)
theorem dJ0_init_35 : decode cJ0_init 35 = .ok (.invokevirtual 42, 3) := dk_182 0 42 (dk_at dksJ0_init_1 13 rfl rfl)
theorem dJ0_init_38 : decode cJ0_init 38 = .ok (.invokevirtual 45, 3) := dk_182 0 45 (dk_at dksJ0_init_1 16 rfl rfl)
theorem dJ0_init_41 : decode cJ0_init 41 = .ok (.invokespecial 49, 3) := dk_183 0 49 (dk_at dksJ0_init_1 19 rfl rfl)
theorem dJ0_init_44 : decode cJ0_init 44 = .ok (.athrow, 1) := dk_191 (dk_at dksJ0_init_1 22 rfl rfl)
theorem dJ0_init_45 : decode cJ0_init 45 = .ok (.aload_n 0, 1) := dk_42 (dk_at dksJ0_init_1 23 rfl rfl)
theorem dJ0_init_46 : decode cJ0_init 46 = .ok (.iload_n 1, 1) := dk_27 (dk_at dksJ0_init_2 0 rfl rfl)
theorem dJ0_init_47 : decode cJ0_init 47 = .ok (.invokevirtual 27, 3) := dk_182 0 27 (dk_at dksJ0_init_2 1 rfl rfl)
theorem dJ0_init_50 : decode cJ0_init 50 = .ok (.aload_n 0, 1) := dk_42 (dk_at dksJ0_init_2 4 rfl rfl)
theorem dJ0_init_51 : decode cJ0_init 51 = .ok (.iconst 1, 1) := dk_4 (dk_at dksJ0_init_2 5 rfl rfl)
theorem dJ0_init_52 : decode cJ0_init 52 = .ok (.putfield 24, 3) := dk_181 0 24 (dk_at dksJ0_init_2 6 rfl rfl)
theorem dJ0_init_55 : decode cJ0_init 55 = .ok (.return_, 1) := dk_177 (dk_at dksJ0_init_2 9 rfl rfl)
abbrev cJ0_initWords : ByteArray := prog_60_method_6_code
def yJ0_initWords : MethodName := ⟨RJ0, "initWords", "(I)V"⟩
def dkwJ0_initWords_0 : List UInt8 := [42, 27, 4, 100, 184, 0, 52, 4, 96, 188, 11, 181, 0, 11, 177]
abbrev dktJ0_initWords_0 : List UInt8 := dkwJ0_initWords_0 ++ []
theorem dksJ0_initWords_0 : cJ0_initWords.data.toList.drop 0 = dktJ0_initWords_0 := by decide +kernel
theorem dJ0_initWords_0 : decode cJ0_initWords 0 = .ok (.aload_n 0, 1) := dk_42 (dk_at dksJ0_initWords_0 0 rfl rfl)
theorem dJ0_initWords_1 : decode cJ0_initWords 1 = .ok (.iload_n 1, 1) := dk_27 (dk_at dksJ0_initWords_0 1 rfl rfl)
theorem dJ0_initWords_2 : decode cJ0_initWords 2 = .ok (.iconst 1, 1) := dk_4 (dk_at dksJ0_initWords_0 2 rfl rfl)
theorem dJ0_initWords_3 : decode cJ0_initWords 3 = .ok (.isub, 1) := dk_100 (dk_at dksJ0_initWords_0 3 rfl rfl)
theorem dJ0_initWords_4 : decode cJ0_initWords 4 = .ok (.invokestatic 52, 3) := dk_184 0 52 (dk_at dksJ0_initWords_0 4 rfl rfl)
theorem dJ0_initWords_7 : decode cJ0_initWords 7 = .ok (.iconst 1, 1) := dk_4 (dk_at dksJ0_initWords_0 7 rfl rfl)
theorem dJ0_initWords_8 : decode cJ0_initWords 8 = .ok (.iadd, 1) := dk_96 (dk_at dksJ0_initWords_0 8 rfl rfl)
theorem dJ0_initWords_9 : decode cJ0_initWords 9 = .ok (.newarray .long, 2) := dk_188_11 (dk_at dksJ0_initWords_0 9 rfl rfl)
theorem dJ0_initWords_11 : decode cJ0_initWords 11 = .ok (.putfield 11, 3) := dk_181 0 11 (dk_at dksJ0_initWords_0 11 rfl rfl)
theorem dJ0_initWords_14 : decode cJ0_initWords 14 = .ok (.return_, 1) := dk_177 (dk_at dksJ0_initWords_0 14 rfl rfl)
abbrev cJ0_wordIndex : ByteArray := prog_60_method_1_code
def yJ0_wordIndex : MethodName := ⟨RJ0, "wordIndex", "(I)I"⟩
def dkwJ0_wordIndex_0 : List UInt8 := [26, 16, 6, 122, 172]
abbrev dktJ0_wordIndex_0 : List UInt8 := dkwJ0_wordIndex_0 ++ []
theorem dksJ0_wordIndex_0 : cJ0_wordIndex.data.toList.drop 0 = dktJ0_wordIndex_0 := by decide +kernel
theorem dJ0_wordIndex_0 : decode cJ0_wordIndex 0 = .ok (.iload_n 0, 1) := dk_26 (dk_at dksJ0_wordIndex_0 0 rfl rfl)
theorem dJ0_wordIndex_1 : decode cJ0_wordIndex 1 = .ok (.bipush 6, 2) := dk_16 6 (dk_at dksJ0_wordIndex_0 1 rfl rfl)
theorem dJ0_wordIndex_3 : decode cJ0_wordIndex 3 = .ok (.ishr, 1) := dk_122 (dk_at dksJ0_wordIndex_0 3 rfl rfl)
theorem dJ0_wordIndex_4 : decode cJ0_wordIndex 4 = .ok (.ireturn, 1) := dk_172 (dk_at dksJ0_wordIndex_0 4 rfl rfl)
abbrev cJ0_get : ByteArray := prog_60_method_26_code
def yJ0_get : MethodName := ⟨RJ0, "get", "(I)Z"⟩
def dkwJ0_get_2 : List UInt8 := [42, 180, 0, 11, 28, 47, 10, 27, 121, 127, 9, 148, 153, 0, 7, 4, 167, 0, 4, 3, 172]
abbrev dktJ0_get_2 : List UInt8 := dkwJ0_get_2 ++ []
def dkwJ0_get_1 : List UInt8 := [182, 0, 45, 183, 0, 146, 191, 42, 182, 0, 56, 27, 184, 0, 52, 61, 28, 42, 180, 0, 7, 162, 0, 22]
abbrev dktJ0_get_1 : List UInt8 := dkwJ0_get_1 ++ dktJ0_get_2
def dkwJ0_get_0 : List UInt8 := [27, 156, 0, 30, 187, 0, 142, 89, 187, 0, 33, 89, 183, 0, 35, 18, 153, 182, 0, 38, 27, 182, 0, 42]
abbrev dktJ0_get_0 : List UInt8 := dkwJ0_get_0 ++ dktJ0_get_1
theorem dksJ0_get_0 : cJ0_get.data.toList.drop 0 = dktJ0_get_0 := by decide +kernel
theorem dksJ0_get_1 : cJ0_get.data.toList.drop 24 = dktJ0_get_1 := dk_seg dksJ0_get_0 24 rfl rfl
theorem dksJ0_get_2 : cJ0_get.data.toList.drop 48 = dktJ0_get_2 := dk_seg dksJ0_get_1 24 rfl rfl
theorem dJ0_get_0 : decode cJ0_get 0 = .ok (.iload_n 1, 1) := dk_27 (dk_at dksJ0_get_0 0 rfl rfl)
theorem dJ0_get_1 : decode cJ0_get 1 = .ok (.ifCond .ge 30, 3) := dk_156 0 30 (dk_at dksJ0_get_0 1 rfl rfl)
theorem dJ0_get_4 : decode cJ0_get 4 = .ok (.new 142, 3) := dk_187 0 142 (dk_at dksJ0_get_0 4 rfl rfl)
theorem dJ0_get_7 : decode cJ0_get 7 = .ok (.dup, 1) := dk_89 (dk_at dksJ0_get_0 7 rfl rfl)
theorem dJ0_get_8 : decode cJ0_get 8 = .ok (.new 33, 3) := dk_187 0 33 (dk_at dksJ0_get_0 8 rfl rfl)
theorem dJ0_get_11 : decode cJ0_get 11 = .ok (.dup, 1) := dk_89 (dk_at dksJ0_get_0 11 rfl rfl)
theorem dJ0_get_12 : decode cJ0_get 12 = .ok (.invokespecial 35, 3) := dk_183 0 35 (dk_at dksJ0_get_0 12 rfl rfl)
theorem dJ0_get_15 : decode cJ0_get 15 = .ok (.ldc 153, 2) := dk_18 153 (dk_at dksJ0_get_0 15 rfl rfl)
theorem dJ0_get_17 : decode cJ0_get 17 = .ok (.invokevirtual 38, 3) := dk_182 0 38 (dk_at dksJ0_get_0 17 rfl rfl)
theorem dJ0_get_20 : decode cJ0_get 20 = .ok (.iload_n 1, 1) := dk_27 (dk_at dksJ0_get_0 20 rfl rfl)
theorem dJ0_get_21 : decode cJ0_get 21 = .ok (.invokevirtual 42, 3) := dk_182 0 42 (dk_at dksJ0_get_0 21 rfl rfl)
theorem dJ0_get_24 : decode cJ0_get 24 = .ok (.invokevirtual 45, 3) := dk_182 0 45 (dk_at dksJ0_get_1 0 rfl rfl)
theorem dJ0_get_27 : decode cJ0_get 27 = .ok (.invokespecial 146, 3) := dk_183 0 146 (dk_at dksJ0_get_1 3 rfl rfl)
theorem dJ0_get_30 : decode cJ0_get 30 = .ok (.athrow, 1) := dk_191 (dk_at dksJ0_get_1 6 rfl rfl)
theorem dJ0_get_31 : decode cJ0_get 31 = .ok (.aload_n 0, 1) := dk_42 (dk_at dksJ0_get_1 7 rfl rfl)
theorem dJ0_get_32 : decode cJ0_get 32 = .ok (.invokevirtual 56, 3) := dk_182 0 56 (dk_at dksJ0_get_1 8 rfl rfl)
theorem dJ0_get_35 : decode cJ0_get 35 = .ok (.iload_n 1, 1) := dk_27 (dk_at dksJ0_get_1 11 rfl rfl)
theorem dJ0_get_36 : decode cJ0_get 36 = .ok (.invokestatic 52, 3) := dk_184 0 52 (dk_at dksJ0_get_1 12 rfl rfl)
theorem dJ0_get_39 : decode cJ0_get 39 = .ok (.istore_n 2, 1) := dk_61 (dk_at dksJ0_get_1 15 rfl rfl)
theorem dJ0_get_40 : decode cJ0_get 40 = .ok (.iload_n 2, 1) := dk_28 (dk_at dksJ0_get_1 16 rfl rfl)
theorem dJ0_get_41 : decode cJ0_get 41 = .ok (.aload_n 0, 1) := dk_42 (dk_at dksJ0_get_1 17 rfl rfl)
theorem dJ0_get_42 : decode cJ0_get 42 = .ok (.getfield 7, 3) := dk_180 0 7 (dk_at dksJ0_get_1 18 rfl rfl)
theorem dJ0_get_45 : decode cJ0_get 45 = .ok (.if_icmp .ge 22, 3) := dk_162 0 22 (dk_at dksJ0_get_1 21 rfl rfl)
theorem dJ0_get_48 : decode cJ0_get 48 = .ok (.aload_n 0, 1) := dk_42 (dk_at dksJ0_get_2 0 rfl rfl)
theorem dJ0_get_49 : decode cJ0_get 49 = .ok (.getfield 11, 3) := dk_180 0 11 (dk_at dksJ0_get_2 1 rfl rfl)
theorem dJ0_get_52 : decode cJ0_get 52 = .ok (.iload_n 2, 1) := dk_28 (dk_at dksJ0_get_2 4 rfl rfl)
theorem dJ0_get_53 : decode cJ0_get 53 = .ok (.laload, 1) := dk_47 (dk_at dksJ0_get_2 5 rfl rfl)
theorem dJ0_get_54 : decode cJ0_get 54 = .ok (.lconst 1, 1) := dk_10 (dk_at dksJ0_get_2 6 rfl rfl)
theorem dJ0_get_55 : decode cJ0_get 55 = .ok (.iload_n 1, 1) := dk_27 (dk_at dksJ0_get_2 7 rfl rfl)
theorem dJ0_get_56 : decode cJ0_get 56 = .ok (.lshl, 1) := dk_121 (dk_at dksJ0_get_2 8 rfl rfl)
theorem dJ0_get_57 : decode cJ0_get 57 = .ok (.land, 1) := dk_127 (dk_at dksJ0_get_2 9 rfl rfl)
theorem dJ0_get_58 : decode cJ0_get 58 = .ok (.lconst 0, 1) := dk_9 (dk_at dksJ0_get_2 10 rfl rfl)
theorem dJ0_get_59 : decode cJ0_get 59 = .ok (.lcmp, 1) := dk_148 (dk_at dksJ0_get_2 11 rfl rfl)
theorem dJ0_get_60 : decode cJ0_get 60 = .ok (.ifCond .eq 7, 3) := dk_153 0 7 (dk_at dksJ0_get_2 12 rfl rfl)
theorem dJ0_get_63 : decode cJ0_get 63 = .ok (.iconst 1, 1) := dk_4 (dk_at dksJ0_get_2 15 rfl rfl)
theorem dJ0_get_64 : decode cJ0_get 64 = .ok (.goto 4, 3) := dk_167 0 4 (dk_at dksJ0_get_2 16 rfl rfl)
theorem dJ0_get_67 : decode cJ0_get 67 = .ok (.iconst 0, 1) := dk_3 (dk_at dksJ0_get_2 19 rfl rfl)
theorem dJ0_get_68 : decode cJ0_get 68 = .ok (.ireturn, 1) := dk_172 (dk_at dksJ0_get_2 20 rfl rfl)
abbrev cJ0_checkInvariants : ByteArray := prog_60_method_2_code
def yJ0_checkInvariants : MethodName := ⟨RJ0, "checkInvariants", "()V"⟩
def dkwJ0_checkInvariants_4 : List UInt8 := [180, 0, 7, 47, 9, 148, 153, 0, 11, 187, 0, 15, 89, 183, 0, 17, 191, 177]
abbrev dktJ0_checkInvariants_4 : List UInt8 := dkwJ0_checkInvariants_4 ++ []
def dkwJ0_checkInvariants_3 : List UInt8 := [178, 0, 3, 154, 0, 37, 42, 180, 0, 7, 42, 180, 0, 11, 190, 159, 0, 25, 42, 180, 0, 11, 42]
abbrev dktJ0_checkInvariants_3 : List UInt8 := dkwJ0_checkInvariants_3 ++ dktJ0_checkInvariants_4
def dkwJ0_checkInvariants_2 : List UInt8 := [155, 0, 15, 42, 180, 0, 7, 42, 180, 0, 11, 190, 164, 0, 11, 187, 0, 15, 89, 183, 0, 17, 191]
abbrev dktJ0_checkInvariants_2 : List UInt8 := dkwJ0_checkInvariants_2 ++ dktJ0_checkInvariants_3
def dkwJ0_checkInvariants_1 : List UInt8 := [9, 148, 154, 0, 11, 187, 0, 15, 89, 183, 0, 17, 191, 178, 0, 3, 154, 0, 30, 42, 180, 0, 7]
abbrev dktJ0_checkInvariants_1 : List UInt8 := dkwJ0_checkInvariants_1 ++ dktJ0_checkInvariants_2
def dkwJ0_checkInvariants_0 : List UInt8 := [178, 0, 3, 154, 0, 34, 42, 180, 0, 7, 153, 0, 27, 42, 180, 0, 11, 42, 180, 0, 7, 4, 100, 47]
abbrev dktJ0_checkInvariants_0 : List UInt8 := dkwJ0_checkInvariants_0 ++ dktJ0_checkInvariants_1
theorem dksJ0_checkInvariants_0 : cJ0_checkInvariants.data.toList.drop 0 = dktJ0_checkInvariants_0 := by decide +kernel
theorem dksJ0_checkInvariants_1 : cJ0_checkInvariants.data.toList.drop 24 = dktJ0_checkInvariants_1 := dk_seg dksJ0_checkInvariants_0 24 rfl rfl
theorem dksJ0_checkInvariants_2 : cJ0_checkInvariants.data.toList.drop 47 = dktJ0_checkInvariants_2 := dk_seg dksJ0_checkInvariants_1 23 rfl rfl
theorem dksJ0_checkInvariants_3 : cJ0_checkInvariants.data.toList.drop 70 = dktJ0_checkInvariants_3 := dk_seg dksJ0_checkInvariants_2 23 rfl rfl
theorem dksJ0_checkInvariants_4 : cJ0_checkInvariants.data.toList.drop 93 = dktJ0_checkInvariants_4 := dk_seg dksJ0_checkInvariants_3 23 rfl rfl
theorem dJ0_checkInvariants_0 : decode cJ0_checkInvariants 0 = .ok (.getstatic 3, 3) := dk_178 0 3 (dk_at dksJ0_checkInvariants_0 0 rfl rfl)
theorem dJ0_checkInvariants_3 : decode cJ0_checkInvariants 3 = .ok (.ifCond .ne 34, 3) := dk_154 0 34 (dk_at dksJ0_checkInvariants_0 3 rfl rfl)
theorem dJ0_checkInvariants_6 : decode cJ0_checkInvariants 6 = .ok (.aload_n 0, 1) := dk_42 (dk_at dksJ0_checkInvariants_0 6 rfl rfl)
theorem dJ0_checkInvariants_7 : decode cJ0_checkInvariants 7 = .ok (.getfield 7, 3) := dk_180 0 7 (dk_at dksJ0_checkInvariants_0 7 rfl rfl)
theorem dJ0_checkInvariants_10 : decode cJ0_checkInvariants 10 = .ok (.ifCond .eq 27, 3) := dk_153 0 27 (dk_at dksJ0_checkInvariants_0 10 rfl rfl)
theorem dJ0_checkInvariants_13 : decode cJ0_checkInvariants 13 = .ok (.aload_n 0, 1) := dk_42 (dk_at dksJ0_checkInvariants_0 13 rfl rfl)
theorem dJ0_checkInvariants_14 : decode cJ0_checkInvariants 14 = .ok (.getfield 11, 3) := dk_180 0 11 (dk_at dksJ0_checkInvariants_0 14 rfl rfl)
theorem dJ0_checkInvariants_17 : decode cJ0_checkInvariants 17 = .ok (.aload_n 0, 1) := dk_42 (dk_at dksJ0_checkInvariants_0 17 rfl rfl)
theorem dJ0_checkInvariants_18 : decode cJ0_checkInvariants 18 = .ok (.getfield 7, 3) := dk_180 0 7 (dk_at dksJ0_checkInvariants_0 18 rfl rfl)
theorem dJ0_checkInvariants_21 : decode cJ0_checkInvariants 21 = .ok (.iconst 1, 1) := dk_4 (dk_at dksJ0_checkInvariants_0 21 rfl rfl)
theorem dJ0_checkInvariants_22 : decode cJ0_checkInvariants 22 = .ok (.isub, 1) := dk_100 (dk_at dksJ0_checkInvariants_0 22 rfl rfl)
theorem dJ0_checkInvariants_23 : decode cJ0_checkInvariants 23 = .ok (.laload, 1) := dk_47 (dk_at dksJ0_checkInvariants_0 23 rfl rfl)
theorem dJ0_checkInvariants_24 : decode cJ0_checkInvariants 24 = .ok (.lconst 0, 1) := dk_9 (dk_at dksJ0_checkInvariants_1 0 rfl rfl)
theorem dJ0_checkInvariants_25 : decode cJ0_checkInvariants 25 = .ok (.lcmp, 1) := dk_148 (dk_at dksJ0_checkInvariants_1 1 rfl rfl)
theorem dJ0_checkInvariants_26 : decode cJ0_checkInvariants 26 = .ok (.ifCond .ne 11, 3) := dk_154 0 11 (dk_at dksJ0_checkInvariants_1 2 rfl rfl)
theorem dJ0_checkInvariants_29 : decode cJ0_checkInvariants 29 = .ok (.new 15, 3) := dk_187 0 15 (dk_at dksJ0_checkInvariants_1 5 rfl rfl)
theorem dJ0_checkInvariants_32 : decode cJ0_checkInvariants 32 = .ok (.dup, 1) := dk_89 (dk_at dksJ0_checkInvariants_1 8 rfl rfl)
theorem dJ0_checkInvariants_33 : decode cJ0_checkInvariants 33 = .ok (.invokespecial 17, 3) := dk_183 0 17 (dk_at dksJ0_checkInvariants_1 9 rfl rfl)
theorem dJ0_checkInvariants_36 : decode cJ0_checkInvariants 36 = .ok (.athrow, 1) := dk_191 (dk_at dksJ0_checkInvariants_1 12 rfl rfl)
theorem dJ0_checkInvariants_37 : decode cJ0_checkInvariants 37 = .ok (.getstatic 3, 3) := dk_178 0 3 (dk_at dksJ0_checkInvariants_1 13 rfl rfl)
theorem dJ0_checkInvariants_40 : decode cJ0_checkInvariants 40 = .ok (.ifCond .ne 30, 3) := dk_154 0 30 (dk_at dksJ0_checkInvariants_1 16 rfl rfl)
theorem dJ0_checkInvariants_43 : decode cJ0_checkInvariants 43 = .ok (.aload_n 0, 1) := dk_42 (dk_at dksJ0_checkInvariants_1 19 rfl rfl)
theorem dJ0_checkInvariants_44 : decode cJ0_checkInvariants 44 = .ok (.getfield 7, 3) := dk_180 0 7 (dk_at dksJ0_checkInvariants_1 20 rfl rfl)
theorem dJ0_checkInvariants_47 : decode cJ0_checkInvariants 47 = .ok (.ifCond .lt 15, 3) := dk_155 0 15 (dk_at dksJ0_checkInvariants_2 0 rfl rfl)
theorem dJ0_checkInvariants_50 : decode cJ0_checkInvariants 50 = .ok (.aload_n 0, 1) := dk_42 (dk_at dksJ0_checkInvariants_2 3 rfl rfl)
theorem dJ0_checkInvariants_51 : decode cJ0_checkInvariants 51 = .ok (.getfield 7, 3) := dk_180 0 7 (dk_at dksJ0_checkInvariants_2 4 rfl rfl)
theorem dJ0_checkInvariants_54 : decode cJ0_checkInvariants 54 = .ok (.aload_n 0, 1) := dk_42 (dk_at dksJ0_checkInvariants_2 7 rfl rfl)
theorem dJ0_checkInvariants_55 : decode cJ0_checkInvariants 55 = .ok (.getfield 11, 3) := dk_180 0 11 (dk_at dksJ0_checkInvariants_2 8 rfl rfl)
theorem dJ0_checkInvariants_58 : decode cJ0_checkInvariants 58 = .ok (.arraylength, 1) := dk_190 (dk_at dksJ0_checkInvariants_2 11 rfl rfl)
theorem dJ0_checkInvariants_59 : decode cJ0_checkInvariants 59 = .ok (.if_icmp .le 11, 3) := dk_164 0 11 (dk_at dksJ0_checkInvariants_2 12 rfl rfl)
theorem dJ0_checkInvariants_62 : decode cJ0_checkInvariants 62 = .ok (.new 15, 3) := dk_187 0 15 (dk_at dksJ0_checkInvariants_2 15 rfl rfl)
theorem dJ0_checkInvariants_65 : decode cJ0_checkInvariants 65 = .ok (.dup, 1) := dk_89 (dk_at dksJ0_checkInvariants_2 18 rfl rfl)
theorem dJ0_checkInvariants_66 : decode cJ0_checkInvariants 66 = .ok (.invokespecial 17, 3) := dk_183 0 17 (dk_at dksJ0_checkInvariants_2 19 rfl rfl)
theorem dJ0_checkInvariants_69 : decode cJ0_checkInvariants 69 = .ok (.athrow, 1) := dk_191 (dk_at dksJ0_checkInvariants_2 22 rfl rfl)
theorem dJ0_checkInvariants_70 : decode cJ0_checkInvariants 70 = .ok (.getstatic 3, 3) := dk_178 0 3 (dk_at dksJ0_checkInvariants_3 0 rfl rfl)
theorem dJ0_checkInvariants_73 : decode cJ0_checkInvariants 73 = .ok (.ifCond .ne 37, 3) := dk_154 0 37 (dk_at dksJ0_checkInvariants_3 3 rfl rfl)
theorem dJ0_checkInvariants_76 : decode cJ0_checkInvariants 76 = .ok (.aload_n 0, 1) := dk_42 (dk_at dksJ0_checkInvariants_3 6 rfl rfl)
theorem dJ0_checkInvariants_77 : decode cJ0_checkInvariants 77 = .ok (.getfield 7, 3) := dk_180 0 7 (dk_at dksJ0_checkInvariants_3 7 rfl rfl)
theorem dJ0_checkInvariants_80 : decode cJ0_checkInvariants 80 = .ok (.aload_n 0, 1) := dk_42 (dk_at dksJ0_checkInvariants_3 10 rfl rfl)
theorem dJ0_checkInvariants_81 : decode cJ0_checkInvariants 81 = .ok (.getfield 11, 3) := dk_180 0 11 (dk_at dksJ0_checkInvariants_3 11 rfl rfl)
theorem dJ0_checkInvariants_84 : decode cJ0_checkInvariants 84 = .ok (.arraylength, 1) := dk_190 (dk_at dksJ0_checkInvariants_3 14 rfl rfl)
theorem dJ0_checkInvariants_85 : decode cJ0_checkInvariants 85 = .ok (.if_icmp .eq 25, 3) := dk_159 0 25 (dk_at dksJ0_checkInvariants_3 15 rfl rfl)
theorem dJ0_checkInvariants_88 : decode cJ0_checkInvariants 88 = .ok (.aload_n 0, 1) := dk_42 (dk_at dksJ0_checkInvariants_3 18 rfl rfl)
theorem dJ0_checkInvariants_89 : decode cJ0_checkInvariants 89 = .ok (.getfield 11, 3) := dk_180 0 11 (dk_at dksJ0_checkInvariants_3 19 rfl rfl)
theorem dJ0_checkInvariants_92 : decode cJ0_checkInvariants 92 = .ok (.aload_n 0, 1) := dk_42 (dk_at dksJ0_checkInvariants_3 22 rfl rfl)
theorem dJ0_checkInvariants_93 : decode cJ0_checkInvariants 93 = .ok (.getfield 7, 3) := dk_180 0 7 (dk_at dksJ0_checkInvariants_4 0 rfl rfl)
theorem dJ0_checkInvariants_96 : decode cJ0_checkInvariants 96 = .ok (.laload, 1) := dk_47 (dk_at dksJ0_checkInvariants_4 3 rfl rfl)
theorem dJ0_checkInvariants_97 : decode cJ0_checkInvariants 97 = .ok (.lconst 0, 1) := dk_9 (dk_at dksJ0_checkInvariants_4 4 rfl rfl)
theorem dJ0_checkInvariants_98 : decode cJ0_checkInvariants 98 = .ok (.lcmp, 1) := dk_148 (dk_at dksJ0_checkInvariants_4 5 rfl rfl)
theorem dJ0_checkInvariants_99 : decode cJ0_checkInvariants 99 = .ok (.ifCond .eq 11, 3) := dk_153 0 11 (dk_at dksJ0_checkInvariants_4 6 rfl rfl)
theorem dJ0_checkInvariants_102 : decode cJ0_checkInvariants 102 = .ok (.new 15, 3) := dk_187 0 15 (dk_at dksJ0_checkInvariants_4 9 rfl rfl)
theorem dJ0_checkInvariants_105 : decode cJ0_checkInvariants 105 = .ok (.dup, 1) := dk_89 (dk_at dksJ0_checkInvariants_4 12 rfl rfl)
theorem dJ0_checkInvariants_106 : decode cJ0_checkInvariants 106 = .ok (.invokespecial 17, 3) := dk_183 0 17 (dk_at dksJ0_checkInvariants_4 13 rfl rfl)
theorem dJ0_checkInvariants_109 : decode cJ0_checkInvariants 109 = .ok (.athrow, 1) := dk_191 (dk_at dksJ0_checkInvariants_4 16 rfl rfl)
theorem dJ0_checkInvariants_110 : decode cJ0_checkInvariants 110 = .ok (.return_, 1) := dk_177 (dk_at dksJ0_checkInvariants_4 17 rfl rfl)
abbrev cJ0_set : ByteArray := prog_60_method_19_code
def yJ0_set : MethodName := ⟨RJ0, "set", "(I)V"⟩
def dkwJ0_set_2 : List UInt8 := [10, 27, 121, 129, 80, 42, 182, 0, 56, 177]
abbrev dktJ0_set_2 : List UInt8 := dkwJ0_set_2 ++ []
def dkwJ0_set_1 : List UInt8 := [182, 0, 45, 183, 0, 146, 191, 27, 184, 0, 52, 61, 42, 28, 182, 0, 155, 42, 180, 0, 11, 28, 92, 47]
abbrev dktJ0_set_1 : List UInt8 := dkwJ0_set_1 ++ dktJ0_set_2
def dkwJ0_set_0 : List UInt8 := [27, 156, 0, 30, 187, 0, 142, 89, 187, 0, 33, 89, 183, 0, 35, 18, 153, 182, 0, 38, 27, 182, 0, 42]
abbrev dktJ0_set_0 : List UInt8 := dkwJ0_set_0 ++ dktJ0_set_1
theorem dksJ0_set_0 : cJ0_set.data.toList.drop 0 = dktJ0_set_0 := by decide +kernel
theorem dksJ0_set_1 : cJ0_set.data.toList.drop 24 = dktJ0_set_1 := dk_seg dksJ0_set_0 24 rfl rfl
theorem dksJ0_set_2 : cJ0_set.data.toList.drop 48 = dktJ0_set_2 := dk_seg dksJ0_set_1 24 rfl rfl
theorem dJ0_set_0 : decode cJ0_set 0 = .ok (.iload_n 1, 1) := dk_27 (dk_at dksJ0_set_0 0 rfl rfl)
theorem dJ0_set_1 : decode cJ0_set 1 = .ok (.ifCond .ge 30, 3) := dk_156 0 30 (dk_at dksJ0_set_0 1 rfl rfl)
theorem dJ0_set_4 : decode cJ0_set 4 = .ok (.new 142, 3) := dk_187 0 142 (dk_at dksJ0_set_0 4 rfl rfl)
theorem dJ0_set_7 : decode cJ0_set 7 = .ok (.dup, 1) := dk_89 (dk_at dksJ0_set_0 7 rfl rfl)
theorem dJ0_set_8 : decode cJ0_set 8 = .ok (.new 33, 3) := dk_187 0 33 (dk_at dksJ0_set_0 8 rfl rfl)
theorem dJ0_set_11 : decode cJ0_set 11 = .ok (.dup, 1) := dk_89 (dk_at dksJ0_set_0 11 rfl rfl)
theorem dJ0_set_12 : decode cJ0_set 12 = .ok (.invokespecial 35, 3) := dk_183 0 35 (dk_at dksJ0_set_0 12 rfl rfl)
theorem dJ0_set_15 : decode cJ0_set 15 = .ok (.ldc 153, 2) := dk_18 153 (dk_at dksJ0_set_0 15 rfl rfl)
theorem dJ0_set_17 : decode cJ0_set 17 = .ok (.invokevirtual 38, 3) := dk_182 0 38 (dk_at dksJ0_set_0 17 rfl rfl)
theorem dJ0_set_20 : decode cJ0_set 20 = .ok (.iload_n 1, 1) := dk_27 (dk_at dksJ0_set_0 20 rfl rfl)
theorem dJ0_set_21 : decode cJ0_set 21 = .ok (.invokevirtual 42, 3) := dk_182 0 42 (dk_at dksJ0_set_0 21 rfl rfl)
theorem dJ0_set_24 : decode cJ0_set 24 = .ok (.invokevirtual 45, 3) := dk_182 0 45 (dk_at dksJ0_set_1 0 rfl rfl)
theorem dJ0_set_27 : decode cJ0_set 27 = .ok (.invokespecial 146, 3) := dk_183 0 146 (dk_at dksJ0_set_1 3 rfl rfl)
theorem dJ0_set_30 : decode cJ0_set 30 = .ok (.athrow, 1) := dk_191 (dk_at dksJ0_set_1 6 rfl rfl)
theorem dJ0_set_31 : decode cJ0_set 31 = .ok (.iload_n 1, 1) := dk_27 (dk_at dksJ0_set_1 7 rfl rfl)
theorem dJ0_set_32 : decode cJ0_set 32 = .ok (.invokestatic 52, 3) := dk_184 0 52 (dk_at dksJ0_set_1 8 rfl rfl)
theorem dJ0_set_35 : decode cJ0_set 35 = .ok (.istore_n 2, 1) := dk_61 (dk_at dksJ0_set_1 11 rfl rfl)
theorem dJ0_set_36 : decode cJ0_set 36 = .ok (.aload_n 0, 1) := dk_42 (dk_at dksJ0_set_1 12 rfl rfl)
theorem dJ0_set_37 : decode cJ0_set 37 = .ok (.iload_n 2, 1) := dk_28 (dk_at dksJ0_set_1 13 rfl rfl)
theorem dJ0_set_38 : decode cJ0_set 38 = .ok (.invokevirtual 155, 3) := dk_182 0 155 (dk_at dksJ0_set_1 14 rfl rfl)
theorem dJ0_set_41 : decode cJ0_set 41 = .ok (.aload_n 0, 1) := dk_42 (dk_at dksJ0_set_1 17 rfl rfl)
theorem dJ0_set_42 : decode cJ0_set 42 = .ok (.getfield 11, 3) := dk_180 0 11 (dk_at dksJ0_set_1 18 rfl rfl)
theorem dJ0_set_45 : decode cJ0_set 45 = .ok (.iload_n 2, 1) := dk_28 (dk_at dksJ0_set_1 21 rfl rfl)
theorem dJ0_set_46 : decode cJ0_set 46 = .ok (.dup2, 1) := dk_92 (dk_at dksJ0_set_1 22 rfl rfl)
theorem dJ0_set_47 : decode cJ0_set 47 = .ok (.laload, 1) := dk_47 (dk_at dksJ0_set_1 23 rfl rfl)
theorem dJ0_set_48 : decode cJ0_set 48 = .ok (.lconst 1, 1) := dk_10 (dk_at dksJ0_set_2 0 rfl rfl)
theorem dJ0_set_49 : decode cJ0_set 49 = .ok (.iload_n 1, 1) := dk_27 (dk_at dksJ0_set_2 1 rfl rfl)
theorem dJ0_set_50 : decode cJ0_set 50 = .ok (.lshl, 1) := dk_121 (dk_at dksJ0_set_2 2 rfl rfl)
theorem dJ0_set_51 : decode cJ0_set 51 = .ok (.lor, 1) := dk_129 (dk_at dksJ0_set_2 3 rfl rfl)
theorem dJ0_set_52 : decode cJ0_set 52 = .ok (.lastore, 1) := dk_80 (dk_at dksJ0_set_2 4 rfl rfl)
theorem dJ0_set_53 : decode cJ0_set 53 = .ok (.aload_n 0, 1) := dk_42 (dk_at dksJ0_set_2 5 rfl rfl)
theorem dJ0_set_54 : decode cJ0_set 54 = .ok (.invokevirtual 56, 3) := dk_182 0 56 (dk_at dksJ0_set_2 6 rfl rfl)
theorem dJ0_set_57 : decode cJ0_set 57 = .ok (.return_, 1) := dk_177 (dk_at dksJ0_set_2 9 rfl rfl)
abbrev cJ0_expandTo : ByteArray := prog_60_method_15_code
def yJ0_expandTo : MethodName := ⟨RJ0, "expandTo", "(I)V"⟩
def dkwJ0_expandTo_0 : List UInt8 := [27, 4, 96, 61, 42, 180, 0, 7, 28, 162, 0, 13, 42, 28, 182, 0, 139, 42, 28, 181, 0, 7, 177]
abbrev dktJ0_expandTo_0 : List UInt8 := dkwJ0_expandTo_0 ++ []
theorem dksJ0_expandTo_0 : cJ0_expandTo.data.toList.drop 0 = dktJ0_expandTo_0 := by decide +kernel
theorem dJ0_expandTo_0 : decode cJ0_expandTo 0 = .ok (.iload_n 1, 1) := dk_27 (dk_at dksJ0_expandTo_0 0 rfl rfl)
theorem dJ0_expandTo_1 : decode cJ0_expandTo 1 = .ok (.iconst 1, 1) := dk_4 (dk_at dksJ0_expandTo_0 1 rfl rfl)
theorem dJ0_expandTo_2 : decode cJ0_expandTo 2 = .ok (.iadd, 1) := dk_96 (dk_at dksJ0_expandTo_0 2 rfl rfl)
theorem dJ0_expandTo_3 : decode cJ0_expandTo 3 = .ok (.istore_n 2, 1) := dk_61 (dk_at dksJ0_expandTo_0 3 rfl rfl)
theorem dJ0_expandTo_4 : decode cJ0_expandTo 4 = .ok (.aload_n 0, 1) := dk_42 (dk_at dksJ0_expandTo_0 4 rfl rfl)
theorem dJ0_expandTo_5 : decode cJ0_expandTo 5 = .ok (.getfield 7, 3) := dk_180 0 7 (dk_at dksJ0_expandTo_0 5 rfl rfl)
theorem dJ0_expandTo_8 : decode cJ0_expandTo 8 = .ok (.iload_n 2, 1) := dk_28 (dk_at dksJ0_expandTo_0 8 rfl rfl)
theorem dJ0_expandTo_9 : decode cJ0_expandTo 9 = .ok (.if_icmp .ge 13, 3) := dk_162 0 13 (dk_at dksJ0_expandTo_0 9 rfl rfl)
theorem dJ0_expandTo_12 : decode cJ0_expandTo 12 = .ok (.aload_n 0, 1) := dk_42 (dk_at dksJ0_expandTo_0 12 rfl rfl)
theorem dJ0_expandTo_13 : decode cJ0_expandTo 13 = .ok (.iload_n 2, 1) := dk_28 (dk_at dksJ0_expandTo_0 13 rfl rfl)
theorem dJ0_expandTo_14 : decode cJ0_expandTo 14 = .ok (.invokevirtual 139, 3) := dk_182 0 139 (dk_at dksJ0_expandTo_0 14 rfl rfl)
theorem dJ0_expandTo_17 : decode cJ0_expandTo 17 = .ok (.aload_n 0, 1) := dk_42 (dk_at dksJ0_expandTo_0 17 rfl rfl)
theorem dJ0_expandTo_18 : decode cJ0_expandTo 18 = .ok (.iload_n 2, 1) := dk_28 (dk_at dksJ0_expandTo_0 18 rfl rfl)
theorem dJ0_expandTo_19 : decode cJ0_expandTo 19 = .ok (.putfield 7, 3) := dk_181 0 7 (dk_at dksJ0_expandTo_0 19 rfl rfl)
theorem dJ0_expandTo_22 : decode cJ0_expandTo 22 = .ok (.return_, 1) := dk_177 (dk_at dksJ0_expandTo_0 22 rfl rfl)
abbrev cJ0_ensureCapacity : ByteArray := prog_60_method_14_code
def yJ0_ensureCapacity : MethodName := ⟨RJ0, "ensureCapacity", "(I)V"⟩
def dkwJ0_ensureCapacity_1 : List UInt8 := [180, 0, 11, 28, 184, 0, 59, 181, 0, 11, 42, 3, 181, 0, 24, 177]
abbrev dktJ0_ensureCapacity_1 : List UInt8 := dkwJ0_ensureCapacity_1 ++ []
def dkwJ0_ensureCapacity_0 : List UInt8 := [42, 180, 0, 11, 190, 27, 162, 0, 32, 5, 42, 180, 0, 11, 190, 104, 27, 184, 0, 133, 61, 42, 42]
abbrev dktJ0_ensureCapacity_0 : List UInt8 := dkwJ0_ensureCapacity_0 ++ dktJ0_ensureCapacity_1
theorem dksJ0_ensureCapacity_0 : cJ0_ensureCapacity.data.toList.drop 0 = dktJ0_ensureCapacity_0 := by decide +kernel
theorem dksJ0_ensureCapacity_1 : cJ0_ensureCapacity.data.toList.drop 23 = dktJ0_ensureCapacity_1 := dk_seg dksJ0_ensureCapacity_0 23 rfl rfl
theorem dJ0_ensureCapacity_0 : decode cJ0_ensureCapacity 0 = .ok (.aload_n 0, 1) := dk_42 (dk_at dksJ0_ensureCapacity_0 0 rfl rfl)
theorem dJ0_ensureCapacity_1 : decode cJ0_ensureCapacity 1 = .ok (.getfield 11, 3) := dk_180 0 11 (dk_at dksJ0_ensureCapacity_0 1 rfl rfl)
theorem dJ0_ensureCapacity_4 : decode cJ0_ensureCapacity 4 = .ok (.arraylength, 1) := dk_190 (dk_at dksJ0_ensureCapacity_0 4 rfl rfl)
theorem dJ0_ensureCapacity_5 : decode cJ0_ensureCapacity 5 = .ok (.iload_n 1, 1) := dk_27 (dk_at dksJ0_ensureCapacity_0 5 rfl rfl)
theorem dJ0_ensureCapacity_6 : decode cJ0_ensureCapacity 6 = .ok (.if_icmp .ge 32, 3) := dk_162 0 32 (dk_at dksJ0_ensureCapacity_0 6 rfl rfl)
theorem dJ0_ensureCapacity_9 : decode cJ0_ensureCapacity 9 = .ok (.iconst 2, 1) := dk_5 (dk_at dksJ0_ensureCapacity_0 9 rfl rfl)
theorem dJ0_ensureCapacity_10 : decode cJ0_ensureCapacity 10 = .ok (.aload_n 0, 1) := dk_42 (dk_at dksJ0_ensureCapacity_0 10 rfl rfl)
theorem dJ0_ensureCapacity_11 : decode cJ0_ensureCapacity 11 = .ok (.getfield 11, 3) := dk_180 0 11 (dk_at dksJ0_ensureCapacity_0 11 rfl rfl)
theorem dJ0_ensureCapacity_14 : decode cJ0_ensureCapacity 14 = .ok (.arraylength, 1) := dk_190 (dk_at dksJ0_ensureCapacity_0 14 rfl rfl)
theorem dJ0_ensureCapacity_15 : decode cJ0_ensureCapacity 15 = .ok (.imul, 1) := dk_104 (dk_at dksJ0_ensureCapacity_0 15 rfl rfl)
theorem dJ0_ensureCapacity_16 : decode cJ0_ensureCapacity 16 = .ok (.iload_n 1, 1) := dk_27 (dk_at dksJ0_ensureCapacity_0 16 rfl rfl)
theorem dJ0_ensureCapacity_17 : decode cJ0_ensureCapacity 17 = .ok (.invokestatic 133, 3) := dk_184 0 133 (dk_at dksJ0_ensureCapacity_0 17 rfl rfl)
theorem dJ0_ensureCapacity_20 : decode cJ0_ensureCapacity 20 = .ok (.istore_n 2, 1) := dk_61 (dk_at dksJ0_ensureCapacity_0 20 rfl rfl)
theorem dJ0_ensureCapacity_21 : decode cJ0_ensureCapacity 21 = .ok (.aload_n 0, 1) := dk_42 (dk_at dksJ0_ensureCapacity_0 21 rfl rfl)
theorem dJ0_ensureCapacity_22 : decode cJ0_ensureCapacity 22 = .ok (.aload_n 0, 1) := dk_42 (dk_at dksJ0_ensureCapacity_0 22 rfl rfl)
theorem dJ0_ensureCapacity_23 : decode cJ0_ensureCapacity 23 = .ok (.getfield 11, 3) := dk_180 0 11 (dk_at dksJ0_ensureCapacity_1 0 rfl rfl)
theorem dJ0_ensureCapacity_26 : decode cJ0_ensureCapacity 26 = .ok (.iload_n 2, 1) := dk_28 (dk_at dksJ0_ensureCapacity_1 3 rfl rfl)
theorem dJ0_ensureCapacity_27 : decode cJ0_ensureCapacity 27 = .ok (.invokestatic 59, 3) := dk_184 0 59 (dk_at dksJ0_ensureCapacity_1 4 rfl rfl)
theorem dJ0_ensureCapacity_30 : decode cJ0_ensureCapacity 30 = .ok (.putfield 11, 3) := dk_181 0 11 (dk_at dksJ0_ensureCapacity_1 7 rfl rfl)
theorem dJ0_ensureCapacity_33 : decode cJ0_ensureCapacity 33 = .ok (.aload_n 0, 1) := dk_42 (dk_at dksJ0_ensureCapacity_1 10 rfl rfl)
theorem dJ0_ensureCapacity_34 : decode cJ0_ensureCapacity 34 = .ok (.iconst 0, 1) := dk_3 (dk_at dksJ0_ensureCapacity_1 11 rfl rfl)
theorem dJ0_ensureCapacity_35 : decode cJ0_ensureCapacity 35 = .ok (.putfield 24, 3) := dk_181 0 24 (dk_at dksJ0_ensureCapacity_1 12 rfl rfl)
theorem dJ0_ensureCapacity_38 : decode cJ0_ensureCapacity 38 = .ok (.return_, 1) := dk_177 (dk_at dksJ0_ensureCapacity_1 15 rfl rfl)
abbrev cJ0_cardinality : ByteArray := prog_60_method_35_code
def yJ0_cardinality : MethodName := ⟨RJ0, "cardinality", "()I"⟩
def dkwJ0_cardinality_1 : List UInt8 := [132, 2, 1, 167, 255, 233, 27, 172]
abbrev dktJ0_cardinality_1 : List UInt8 := dkwJ0_cardinality_1 ++ []
def dkwJ0_cardinality_0 : List UInt8 := [3, 60, 3, 61, 28, 42, 180, 0, 7, 162, 0, 21, 27, 42, 180, 0, 11, 28, 47, 184, 0, 196, 96, 60]
abbrev dktJ0_cardinality_0 : List UInt8 := dkwJ0_cardinality_0 ++ dktJ0_cardinality_1
theorem dksJ0_cardinality_0 : cJ0_cardinality.data.toList.drop 0 = dktJ0_cardinality_0 := by decide +kernel
theorem dksJ0_cardinality_1 : cJ0_cardinality.data.toList.drop 24 = dktJ0_cardinality_1 := dk_seg dksJ0_cardinality_0 24 rfl rfl
theorem dJ0_cardinality_0 : decode cJ0_cardinality 0 = .ok (.iconst 0, 1) := dk_3 (dk_at dksJ0_cardinality_0 0 rfl rfl)
theorem dJ0_cardinality_1 : decode cJ0_cardinality 1 = .ok (.istore_n 1, 1) := dk_60 (dk_at dksJ0_cardinality_0 1 rfl rfl)
theorem dJ0_cardinality_2 : decode cJ0_cardinality 2 = .ok (.iconst 0, 1) := dk_3 (dk_at dksJ0_cardinality_0 2 rfl rfl)
theorem dJ0_cardinality_3 : decode cJ0_cardinality 3 = .ok (.istore_n 2, 1) := dk_61 (dk_at dksJ0_cardinality_0 3 rfl rfl)
theorem dJ0_cardinality_4 : decode cJ0_cardinality 4 = .ok (.iload_n 2, 1) := dk_28 (dk_at dksJ0_cardinality_0 4 rfl rfl)
theorem dJ0_cardinality_5 : decode cJ0_cardinality 5 = .ok (.aload_n 0, 1) := dk_42 (dk_at dksJ0_cardinality_0 5 rfl rfl)
theorem dJ0_cardinality_6 : decode cJ0_cardinality 6 = .ok (.getfield 7, 3) := dk_180 0 7 (dk_at dksJ0_cardinality_0 6 rfl rfl)
theorem dJ0_cardinality_9 : decode cJ0_cardinality 9 = .ok (.if_icmp .ge 21, 3) := dk_162 0 21 (dk_at dksJ0_cardinality_0 9 rfl rfl)
theorem dJ0_cardinality_12 : decode cJ0_cardinality 12 = .ok (.iload_n 1, 1) := dk_27 (dk_at dksJ0_cardinality_0 12 rfl rfl)
theorem dJ0_cardinality_13 : decode cJ0_cardinality 13 = .ok (.aload_n 0, 1) := dk_42 (dk_at dksJ0_cardinality_0 13 rfl rfl)
theorem dJ0_cardinality_14 : decode cJ0_cardinality 14 = .ok (.getfield 11, 3) := dk_180 0 11 (dk_at dksJ0_cardinality_0 14 rfl rfl)
theorem dJ0_cardinality_17 : decode cJ0_cardinality 17 = .ok (.iload_n 2, 1) := dk_28 (dk_at dksJ0_cardinality_0 17 rfl rfl)
theorem dJ0_cardinality_18 : decode cJ0_cardinality 18 = .ok (.laload, 1) := dk_47 (dk_at dksJ0_cardinality_0 18 rfl rfl)
theorem dJ0_cardinality_19 : decode cJ0_cardinality 19 = .ok (.invokestatic 196, 3) := dk_184 0 196 (dk_at dksJ0_cardinality_0 19 rfl rfl)
theorem dJ0_cardinality_22 : decode cJ0_cardinality 22 = .ok (.iadd, 1) := dk_96 (dk_at dksJ0_cardinality_0 22 rfl rfl)
theorem dJ0_cardinality_23 : decode cJ0_cardinality 23 = .ok (.istore_n 1, 1) := dk_60 (dk_at dksJ0_cardinality_0 23 rfl rfl)
theorem dJ0_cardinality_24 : decode cJ0_cardinality 24 = .ok (.iinc 2 1, 3) := dk_132 2 1 (dk_at dksJ0_cardinality_1 0 rfl rfl)
theorem dJ0_cardinality_27 : decode cJ0_cardinality 27 = .ok (.goto (-23), 3) := dk_167 255 233 (dk_at dksJ0_cardinality_1 3 rfl rfl)
theorem dJ0_cardinality_30 : decode cJ0_cardinality 30 = .ok (.iload_n 1, 1) := dk_27 (dk_at dksJ0_cardinality_1 6 rfl rfl)
theorem dJ0_cardinality_31 : decode cJ0_cardinality 31 = .ok (.ireturn, 1) := dk_172 (dk_at dksJ0_cardinality_1 7 rfl rfl)
abbrev cJ0_clear : ByteArray := prog_60_method_23_code
def yJ0_clear : MethodName := ⟨RJ0, "clear", "(I)V"⟩
def dkwJ0_clear_2 : List UInt8 := [180, 0, 11, 28, 92, 47, 10, 27, 121, 20, 0, 165, 131, 127, 80, 42, 182, 0, 158, 42, 182, 0, 56, 177]
abbrev dktJ0_clear_2 : List UInt8 := dkwJ0_clear_2 ++ []
def dkwJ0_clear_1 : List UInt8 := [182, 0, 45, 183, 0, 146, 191, 27, 184, 0, 52, 61, 28, 42, 180, 0, 7, 161, 0, 4, 177, 42]
abbrev dktJ0_clear_1 : List UInt8 := dkwJ0_clear_1 ++ dktJ0_clear_2
def dkwJ0_clear_0 : List UInt8 := [27, 156, 0, 30, 187, 0, 142, 89, 187, 0, 33, 89, 183, 0, 35, 18, 153, 182, 0, 38, 27, 182, 0, 42]
abbrev dktJ0_clear_0 : List UInt8 := dkwJ0_clear_0 ++ dktJ0_clear_1
theorem dksJ0_clear_0 : cJ0_clear.data.toList.drop 0 = dktJ0_clear_0 := by decide +kernel
theorem dksJ0_clear_1 : cJ0_clear.data.toList.drop 24 = dktJ0_clear_1 := dk_seg dksJ0_clear_0 24 rfl rfl
theorem dksJ0_clear_2 : cJ0_clear.data.toList.drop 46 = dktJ0_clear_2 := dk_seg dksJ0_clear_1 22 rfl rfl
theorem dJ0_clear_0 : decode cJ0_clear 0 = .ok (.iload_n 1, 1) := dk_27 (dk_at dksJ0_clear_0 0 rfl rfl)
theorem dJ0_clear_1 : decode cJ0_clear 1 = .ok (.ifCond .ge 30, 3) := dk_156 0 30 (dk_at dksJ0_clear_0 1 rfl rfl)
theorem dJ0_clear_4 : decode cJ0_clear 4 = .ok (.new 142, 3) := dk_187 0 142 (dk_at dksJ0_clear_0 4 rfl rfl)
theorem dJ0_clear_7 : decode cJ0_clear 7 = .ok (.dup, 1) := dk_89 (dk_at dksJ0_clear_0 7 rfl rfl)
theorem dJ0_clear_8 : decode cJ0_clear 8 = .ok (.new 33, 3) := dk_187 0 33 (dk_at dksJ0_clear_0 8 rfl rfl)
theorem dJ0_clear_11 : decode cJ0_clear 11 = .ok (.dup, 1) := dk_89 (dk_at dksJ0_clear_0 11 rfl rfl)
theorem dJ0_clear_12 : decode cJ0_clear 12 = .ok (.invokespecial 35, 3) := dk_183 0 35 (dk_at dksJ0_clear_0 12 rfl rfl)
theorem dJ0_clear_15 : decode cJ0_clear 15 = .ok (.ldc 153, 2) := dk_18 153 (dk_at dksJ0_clear_0 15 rfl rfl)
theorem dJ0_clear_17 : decode cJ0_clear 17 = .ok (.invokevirtual 38, 3) := dk_182 0 38 (dk_at dksJ0_clear_0 17 rfl rfl)
theorem dJ0_clear_20 : decode cJ0_clear 20 = .ok (.iload_n 1, 1) := dk_27 (dk_at dksJ0_clear_0 20 rfl rfl)
theorem dJ0_clear_21 : decode cJ0_clear 21 = .ok (.invokevirtual 42, 3) := dk_182 0 42 (dk_at dksJ0_clear_0 21 rfl rfl)
theorem dJ0_clear_24 : decode cJ0_clear 24 = .ok (.invokevirtual 45, 3) := dk_182 0 45 (dk_at dksJ0_clear_1 0 rfl rfl)
theorem dJ0_clear_27 : decode cJ0_clear 27 = .ok (.invokespecial 146, 3) := dk_183 0 146 (dk_at dksJ0_clear_1 3 rfl rfl)
theorem dJ0_clear_30 : decode cJ0_clear 30 = .ok (.athrow, 1) := dk_191 (dk_at dksJ0_clear_1 6 rfl rfl)
theorem dJ0_clear_31 : decode cJ0_clear 31 = .ok (.iload_n 1, 1) := dk_27 (dk_at dksJ0_clear_1 7 rfl rfl)
theorem dJ0_clear_32 : decode cJ0_clear 32 = .ok (.invokestatic 52, 3) := dk_184 0 52 (dk_at dksJ0_clear_1 8 rfl rfl)
theorem dJ0_clear_35 : decode cJ0_clear 35 = .ok (.istore_n 2, 1) := dk_61 (dk_at dksJ0_clear_1 11 rfl rfl)
theorem dJ0_clear_36 : decode cJ0_clear 36 = .ok (.iload_n 2, 1) := dk_28 (dk_at dksJ0_clear_1 12 rfl rfl)
theorem dJ0_clear_37 : decode cJ0_clear 37 = .ok (.aload_n 0, 1) := dk_42 (dk_at dksJ0_clear_1 13 rfl rfl)
theorem dJ0_clear_38 : decode cJ0_clear 38 = .ok (.getfield 7, 3) := dk_180 0 7 (dk_at dksJ0_clear_1 14 rfl rfl)
theorem dJ0_clear_41 : decode cJ0_clear 41 = .ok (.if_icmp .lt 4, 3) := dk_161 0 4 (dk_at dksJ0_clear_1 17 rfl rfl)
theorem dJ0_clear_44 : decode cJ0_clear 44 = .ok (.return_, 1) := dk_177 (dk_at dksJ0_clear_1 20 rfl rfl)
theorem dJ0_clear_45 : decode cJ0_clear 45 = .ok (.aload_n 0, 1) := dk_42 (dk_at dksJ0_clear_1 21 rfl rfl)
theorem dJ0_clear_46 : decode cJ0_clear 46 = .ok (.getfield 11, 3) := dk_180 0 11 (dk_at dksJ0_clear_2 0 rfl rfl)
theorem dJ0_clear_49 : decode cJ0_clear 49 = .ok (.iload_n 2, 1) := dk_28 (dk_at dksJ0_clear_2 3 rfl rfl)
theorem dJ0_clear_50 : decode cJ0_clear 50 = .ok (.dup2, 1) := dk_92 (dk_at dksJ0_clear_2 4 rfl rfl)
theorem dJ0_clear_51 : decode cJ0_clear 51 = .ok (.laload, 1) := dk_47 (dk_at dksJ0_clear_2 5 rfl rfl)
theorem dJ0_clear_52 : decode cJ0_clear 52 = .ok (.lconst 1, 1) := dk_10 (dk_at dksJ0_clear_2 6 rfl rfl)
theorem dJ0_clear_53 : decode cJ0_clear 53 = .ok (.iload_n 1, 1) := dk_27 (dk_at dksJ0_clear_2 7 rfl rfl)
theorem dJ0_clear_54 : decode cJ0_clear 54 = .ok (.lshl, 1) := dk_121 (dk_at dksJ0_clear_2 8 rfl rfl)
theorem dJ0_clear_55 : decode cJ0_clear 55 = .ok (.ldc2_w 165, 3) := dk_20 0 165 (dk_at dksJ0_clear_2 9 rfl rfl)
theorem dJ0_clear_58 : decode cJ0_clear 58 = .ok (.lxor, 1) := dk_131 (dk_at dksJ0_clear_2 12 rfl rfl)
theorem dJ0_clear_59 : decode cJ0_clear 59 = .ok (.land, 1) := dk_127 (dk_at dksJ0_clear_2 13 rfl rfl)
theorem dJ0_clear_60 : decode cJ0_clear 60 = .ok (.lastore, 1) := dk_80 (dk_at dksJ0_clear_2 14 rfl rfl)
theorem dJ0_clear_61 : decode cJ0_clear 61 = .ok (.aload_n 0, 1) := dk_42 (dk_at dksJ0_clear_2 15 rfl rfl)
theorem dJ0_clear_62 : decode cJ0_clear 62 = .ok (.invokevirtual 158, 3) := dk_182 0 158 (dk_at dksJ0_clear_2 16 rfl rfl)
theorem dJ0_clear_65 : decode cJ0_clear 65 = .ok (.aload_n 0, 1) := dk_42 (dk_at dksJ0_clear_2 19 rfl rfl)
theorem dJ0_clear_66 : decode cJ0_clear 66 = .ok (.invokevirtual 56, 3) := dk_182 0 56 (dk_at dksJ0_clear_2 20 rfl rfl)
theorem dJ0_clear_69 : decode cJ0_clear 69 = .ok (.return_, 1) := dk_177 (dk_at dksJ0_clear_2 23 rfl rfl)
abbrev cJ0_recalculateWordsInUse : ByteArray := prog_60_method_3_code
def yJ0_recalculateWordsInUse : MethodName := ⟨RJ0, "recalculateWordsInUse", "()V"⟩
def dkwJ0_recalculateWordsInUse_1 : List UInt8 := [167, 0, 9, 132, 1, 255, 167, 255, 235, 42, 27, 4, 96, 181, 0, 7, 177]
abbrev dktJ0_recalculateWordsInUse_1 : List UInt8 := dkwJ0_recalculateWordsInUse_1 ++ []
def dkwJ0_recalculateWordsInUse_0 : List UInt8 := [42, 180, 0, 7, 4, 100, 60, 27, 155, 0, 23, 42, 180, 0, 11, 27, 47, 9, 148, 153, 0, 6]
abbrev dktJ0_recalculateWordsInUse_0 : List UInt8 := dkwJ0_recalculateWordsInUse_0 ++ dktJ0_recalculateWordsInUse_1
theorem dksJ0_recalculateWordsInUse_0 : cJ0_recalculateWordsInUse.data.toList.drop 0 = dktJ0_recalculateWordsInUse_0 := by decide +kernel
theorem dksJ0_recalculateWordsInUse_1 : cJ0_recalculateWordsInUse.data.toList.drop 22 = dktJ0_recalculateWordsInUse_1 := dk_seg dksJ0_recalculateWordsInUse_0 22 rfl rfl
theorem dJ0_recalculateWordsInUse_0 : decode cJ0_recalculateWordsInUse 0 = .ok (.aload_n 0, 1) := dk_42 (dk_at dksJ0_recalculateWordsInUse_0 0 rfl rfl)
theorem dJ0_recalculateWordsInUse_1 : decode cJ0_recalculateWordsInUse 1 = .ok (.getfield 7, 3) := dk_180 0 7 (dk_at dksJ0_recalculateWordsInUse_0 1 rfl rfl)
theorem dJ0_recalculateWordsInUse_4 : decode cJ0_recalculateWordsInUse 4 = .ok (.iconst 1, 1) := dk_4 (dk_at dksJ0_recalculateWordsInUse_0 4 rfl rfl)
theorem dJ0_recalculateWordsInUse_5 : decode cJ0_recalculateWordsInUse 5 = .ok (.isub, 1) := dk_100 (dk_at dksJ0_recalculateWordsInUse_0 5 rfl rfl)
theorem dJ0_recalculateWordsInUse_6 : decode cJ0_recalculateWordsInUse 6 = .ok (.istore_n 1, 1) := dk_60 (dk_at dksJ0_recalculateWordsInUse_0 6 rfl rfl)
theorem dJ0_recalculateWordsInUse_7 : decode cJ0_recalculateWordsInUse 7 = .ok (.iload_n 1, 1) := dk_27 (dk_at dksJ0_recalculateWordsInUse_0 7 rfl rfl)
theorem dJ0_recalculateWordsInUse_8 : decode cJ0_recalculateWordsInUse 8 = .ok (.ifCond .lt 23, 3) := dk_155 0 23 (dk_at dksJ0_recalculateWordsInUse_0 8 rfl rfl)
theorem dJ0_recalculateWordsInUse_11 : decode cJ0_recalculateWordsInUse 11 = .ok (.aload_n 0, 1) := dk_42 (dk_at dksJ0_recalculateWordsInUse_0 11 rfl rfl)
theorem dJ0_recalculateWordsInUse_12 : decode cJ0_recalculateWordsInUse 12 = .ok (.getfield 11, 3) := dk_180 0 11 (dk_at dksJ0_recalculateWordsInUse_0 12 rfl rfl)
theorem dJ0_recalculateWordsInUse_15 : decode cJ0_recalculateWordsInUse 15 = .ok (.iload_n 1, 1) := dk_27 (dk_at dksJ0_recalculateWordsInUse_0 15 rfl rfl)
theorem dJ0_recalculateWordsInUse_16 : decode cJ0_recalculateWordsInUse 16 = .ok (.laload, 1) := dk_47 (dk_at dksJ0_recalculateWordsInUse_0 16 rfl rfl)
theorem dJ0_recalculateWordsInUse_17 : decode cJ0_recalculateWordsInUse 17 = .ok (.lconst 0, 1) := dk_9 (dk_at dksJ0_recalculateWordsInUse_0 17 rfl rfl)
theorem dJ0_recalculateWordsInUse_18 : decode cJ0_recalculateWordsInUse 18 = .ok (.lcmp, 1) := dk_148 (dk_at dksJ0_recalculateWordsInUse_0 18 rfl rfl)
theorem dJ0_recalculateWordsInUse_19 : decode cJ0_recalculateWordsInUse 19 = .ok (.ifCond .eq 6, 3) := dk_153 0 6 (dk_at dksJ0_recalculateWordsInUse_0 19 rfl rfl)
theorem dJ0_recalculateWordsInUse_22 : decode cJ0_recalculateWordsInUse 22 = .ok (.goto 9, 3) := dk_167 0 9 (dk_at dksJ0_recalculateWordsInUse_1 0 rfl rfl)
theorem dJ0_recalculateWordsInUse_25 : decode cJ0_recalculateWordsInUse 25 = .ok (.iinc 1 (-1), 3) := dk_132 1 255 (dk_at dksJ0_recalculateWordsInUse_1 3 rfl rfl)
theorem dJ0_recalculateWordsInUse_28 : decode cJ0_recalculateWordsInUse 28 = .ok (.goto (-21), 3) := dk_167 255 235 (dk_at dksJ0_recalculateWordsInUse_1 6 rfl rfl)
theorem dJ0_recalculateWordsInUse_31 : decode cJ0_recalculateWordsInUse 31 = .ok (.aload_n 0, 1) := dk_42 (dk_at dksJ0_recalculateWordsInUse_1 9 rfl rfl)
theorem dJ0_recalculateWordsInUse_32 : decode cJ0_recalculateWordsInUse 32 = .ok (.iload_n 1, 1) := dk_27 (dk_at dksJ0_recalculateWordsInUse_1 10 rfl rfl)
theorem dJ0_recalculateWordsInUse_33 : decode cJ0_recalculateWordsInUse 33 = .ok (.iconst 1, 1) := dk_4 (dk_at dksJ0_recalculateWordsInUse_1 11 rfl rfl)
theorem dJ0_recalculateWordsInUse_34 : decode cJ0_recalculateWordsInUse 34 = .ok (.iadd, 1) := dk_96 (dk_at dksJ0_recalculateWordsInUse_1 12 rfl rfl)
theorem dJ0_recalculateWordsInUse_35 : decode cJ0_recalculateWordsInUse 35 = .ok (.putfield 7, 3) := dk_181 0 7 (dk_at dksJ0_recalculateWordsInUse_1 13 rfl rfl)
theorem dJ0_recalculateWordsInUse_38 : decode cJ0_recalculateWordsInUse 38 = .ok (.return_, 1) := dk_177 (dk_at dksJ0_recalculateWordsInUse_1 16 rfl rfl)
theorem q49 : (Jvm.Cond.initialized "java/util/BitSet") ∈ lw_all := lw_g (lw_at lw_m1 2 rfl) rfl
theorem q117 : (Jvm.Cond.instantiable "java/util/BitSet" (3 : Nat)) ∈ lw_all := lw_g (lw_at lw_m1 70 rfl) rfl
theorem q119 : (Jvm.Cond.instanceMethod ({ cls := "java/util/BitSet", name := "<init>", desc := "(I)V" } : Jvm.MethodName)) ∈ lw_all := lw_g (lw_at lw_m1 72 rfl) rfl
theorem q120 : (Jvm.Cond.code ({ cls := "java/util/BitSet", name := "<init>", desc := "(I)V" } : Jvm.MethodName) prog_60_method_5_code (2 : Nat) (Option.none : Option Jvm.ClassFile.FieldType)) ∈ lw_all := lw_g (lw_at lw_m1 73 rfl) rfl
theorem q121 : (Jvm.Cond.methodLink "java/util/BitSet" (21 : Nat) ({ cls := "java/lang/Object", name := "<init>", desc := "()V" } : Jvm.MethodName)) ∈ lw_all := lw_g (lw_at lw_m1 74 rfl) rfl
theorem q122 : (Jvm.Cond.methodLink "java/util/BitSet" (27 : Nat) ({ cls := "java/util/BitSet", name := "initWords", desc := "(I)V" } : Jvm.MethodName)) ∈ lw_all := lw_g (lw_at lw_m1 75 rfl) rfl
theorem q123 : (Jvm.Cond.privateMethod ({ cls := "java/util/BitSet", name := "initWords", desc := "(I)V" } : Jvm.MethodName)) ∈ lw_tbl := lw_at lw_m1 76 rfl
theorem q124 : (Jvm.Cond.instanceMethod ({ cls := "java/util/BitSet", name := "initWords", desc := "(I)V" } : Jvm.MethodName)) ∈ lw_all := lw_g (lw_at lw_m1 77 rfl) rfl
theorem q125 : (Jvm.Cond.code ({ cls := "java/util/BitSet", name := "initWords", desc := "(I)V" } : Jvm.MethodName) prog_60_method_6_code (2 : Nat) (Option.none : Option Jvm.ClassFile.FieldType)) ∈ lw_all := lw_g (lw_at lw_m1 78 rfl) rfl
theorem q126 : (Jvm.Cond.methodLink "java/util/BitSet" (52 : Nat) ({ cls := "java/util/BitSet", name := "wordIndex", desc := "(I)I" } : Jvm.MethodName)) ∈ lw_all := lw_g (lw_at lw_m1 79 rfl) rfl
theorem q127 : (Jvm.Cond.static ({ cls := "java/util/BitSet", name := "wordIndex", desc := "(I)I" } : Jvm.MethodName)) ∈ lw_all := lw_g (lw_at lw_m1 80 rfl) rfl
theorem q128 : (Jvm.Cond.code ({ cls := "java/util/BitSet", name := "wordIndex", desc := "(I)I" } : Jvm.MethodName) prog_60_method_1_code (1 : Nat) (Option.some Jvm.ClassFile.FieldType.int)) ∈ lw_all := lw_g (lw_at lw_m1 81 rfl) rfl
theorem q129 : (Jvm.Cond.fieldLink "java/util/BitSet" (11 : Nat) "java/util/BitSet" "words" "[J") ∈ lw_all := lw_g (lw_at lw_m1 82 rfl) rfl
theorem q130 : (Jvm.Cond.fieldLink "java/util/BitSet" (7 : Nat) "java/util/BitSet" "wordsInUse" "I") ∈ lw_all := lw_g (lw_at lw_m1 83 rfl) rfl
theorem q131 : (Jvm.Cond.fieldLink "java/util/BitSet" (24 : Nat) "java/util/BitSet" "sizeIsSticky" "Z") ∈ lw_all := lw_g (lw_at lw_m1 84 rfl) rfl
theorem q132 : (Jvm.Cond.lays "java/util/BitSet" "java/util/BitSet" "words" "[J") ∈ lw_all := lw_g (lw_at lw_m1 85 rfl) rfl
theorem q133 : (Jvm.Cond.soleField "java/util/BitSet" "words") ∈ lw_all := lw_g (lw_at lw_m1 86 rfl) rfl
theorem q134 : (Jvm.Cond.lays "java/util/BitSet" "java/util/BitSet" "wordsInUse" "I") ∈ lw_all := lw_g (lw_at lw_m1 87 rfl) rfl
theorem q135 : (Jvm.Cond.soleField "java/util/BitSet" "wordsInUse") ∈ lw_all := lw_g (lw_at lw_m1 88 rfl) rfl
theorem q136 : (Jvm.Cond.lays "java/util/BitSet" "java/util/BitSet" "sizeIsSticky" "Z") ∈ lw_all := lw_g (lw_at lw_m1 89 rfl) rfl
theorem q137 : (Jvm.Cond.soleField "java/util/BitSet" "sizeIsSticky") ∈ lw_all := lw_g (lw_at lw_m1 90 rfl) rfl
theorem q138 : (Jvm.Cond.superclass "java/util/BitSet" "java/lang/Object") ∈ lw_all := lw_g (lw_at lw_m1 91 rfl) rfl
theorem q851 : (Jvm.Cond.selects "java/util/BitSet" ({ cls := "java/lang/Object", name := "getClass", desc := "()Ljava/lang/Class;" } : Jvm.MethodName) ({ cls := "java/lang/Object", name := "getClass", desc := "()Ljava/lang/Class;" } : Jvm.MethodName)) ∈ lw_all := lw_g (lw_at lw_m4 84 rfl) rfl
theorem q1051 : (Jvm.Cond.instanceMethod ({ cls := "java/util/BitSet", name := "get", desc := "(I)Z" } : Jvm.MethodName)) ∈ lw_all := lw_g (lw_at lw_m5 44 rfl) rfl
theorem q1052 : (Jvm.Cond.selects "java/util/BitSet" ({ cls := "java/util/BitSet", name := "get", desc := "(I)Z" } : Jvm.MethodName) ({ cls := "java/util/BitSet", name := "get", desc := "(I)Z" } : Jvm.MethodName)) ∈ lw_all := lw_g (lw_at lw_m5 45 rfl) rfl
theorem q1053 : (Jvm.Cond.code ({ cls := "java/util/BitSet", name := "get", desc := "(I)Z" } : Jvm.MethodName) prog_60_method_26_code (3 : Nat) (Option.some Jvm.ClassFile.FieldType.boolean)) ∈ lw_all := lw_g (lw_at lw_m5 46 rfl) rfl
theorem q1054 : (Jvm.Cond.classLink "java/util/BitSet" (142 : Nat) "java/lang/IndexOutOfBoundsException") ∈ lw_all := lw_g (lw_at lw_m5 47 rfl) rfl
theorem q1055 : (Jvm.Cond.classLink "java/util/BitSet" (33 : Nat) "java/lang/StringBuilder") ∈ lw_all := lw_g (lw_at lw_m5 48 rfl) rfl
theorem q1056 : (Jvm.Cond.methodLink "java/util/BitSet" (35 : Nat) ({ cls := "java/lang/StringBuilder", name := "<init>", desc := "()V" } : Jvm.MethodName)) ∈ lw_all := lw_g (lw_at lw_m5 49 rfl) rfl
theorem q1057 : (Jvm.Cond.stringRef "java/util/BitSet" (153 : Nat) "bitIndex < 0: ") ∈ lw_tbl := lw_at lw_m5 50 rfl
theorem q1058 : (Jvm.Cond.methodLink "java/util/BitSet" (38 : Nat) ({ cls := "java/lang/StringBuilder", name := "append", desc := "(Ljava/lang/String;)Ljava/lang/StringBuilder;" } : Jvm.MethodName)) ∈ lw_all := lw_g (lw_at lw_m5 51 rfl) rfl
theorem q1059 : (Jvm.Cond.methodLink "java/util/BitSet" (42 : Nat) ({ cls := "java/lang/StringBuilder", name := "append", desc := "(I)Ljava/lang/StringBuilder;" } : Jvm.MethodName)) ∈ lw_all := lw_g (lw_at lw_m5 52 rfl) rfl
theorem q1060 : (Jvm.Cond.methodLink "java/util/BitSet" (45 : Nat) ({ cls := "java/lang/StringBuilder", name := "toString", desc := "()Ljava/lang/String;" } : Jvm.MethodName)) ∈ lw_all := lw_g (lw_at lw_m5 53 rfl) rfl
theorem q1061 : (Jvm.Cond.methodLink "java/util/BitSet" (146 : Nat) ({ cls := "java/lang/IndexOutOfBoundsException", name := "<init>", desc := "(Ljava/lang/String;)V" } : Jvm.MethodName)) ∈ lw_all := lw_g (lw_at lw_m5 54 rfl) rfl
theorem q1062 : (Jvm.Cond.methodLink "java/util/BitSet" (56 : Nat) ({ cls := "java/util/BitSet", name := "checkInvariants", desc := "()V" } : Jvm.MethodName)) ∈ lw_all := lw_g (lw_at lw_m5 55 rfl) rfl
theorem q1063 : (Jvm.Cond.privateMethod ({ cls := "java/util/BitSet", name := "checkInvariants", desc := "()V" } : Jvm.MethodName)) ∈ lw_tbl := lw_at lw_m5 56 rfl
theorem q1064 : (Jvm.Cond.instanceMethod ({ cls := "java/util/BitSet", name := "checkInvariants", desc := "()V" } : Jvm.MethodName)) ∈ lw_all := lw_g (lw_at lw_m5 57 rfl) rfl
theorem q1065 : (Jvm.Cond.code ({ cls := "java/util/BitSet", name := "checkInvariants", desc := "()V" } : Jvm.MethodName) prog_60_method_2_code (1 : Nat) (Option.none : Option Jvm.ClassFile.FieldType)) ∈ lw_all := lw_g (lw_at lw_m5 58 rfl) rfl
theorem q1066 : (Jvm.Cond.fieldLink "java/util/BitSet" (3 : Nat) "java/util/BitSet" "$assertionsDisabled" "Z") ∈ lw_all := lw_g (lw_at lw_m5 59 rfl) rfl
theorem q1067 : (Jvm.Cond.laysStatic "java/util/BitSet" "$assertionsDisabled" "Z") ∈ lw_tbl := lw_at lw_m5 60 rfl
theorem q2044 : (Jvm.Cond.instanceMethod ({ cls := "java/util/BitSet", name := "set", desc := "(I)V" } : Jvm.MethodName)) ∈ lw_all := lw_g (lw_at lw_m9 77 rfl) rfl
theorem q2045 : (Jvm.Cond.selects "java/util/BitSet" ({ cls := "java/util/BitSet", name := "set", desc := "(I)V" } : Jvm.MethodName) ({ cls := "java/util/BitSet", name := "set", desc := "(I)V" } : Jvm.MethodName)) ∈ lw_all := lw_g (lw_at lw_m9 78 rfl) rfl
theorem q2046 : (Jvm.Cond.code ({ cls := "java/util/BitSet", name := "set", desc := "(I)V" } : Jvm.MethodName) prog_60_method_19_code (3 : Nat) (Option.none : Option Jvm.ClassFile.FieldType)) ∈ lw_all := lw_g (lw_at lw_m9 79 rfl) rfl
theorem q2047 : (Jvm.Cond.methodLink "java/util/BitSet" (155 : Nat) ({ cls := "java/util/BitSet", name := "expandTo", desc := "(I)V" } : Jvm.MethodName)) ∈ lw_all := lw_g (lw_at lw_m9 80 rfl) rfl
theorem q2048 : (Jvm.Cond.privateMethod ({ cls := "java/util/BitSet", name := "expandTo", desc := "(I)V" } : Jvm.MethodName)) ∈ lw_tbl := lw_at lw_m9 81 rfl
theorem q2049 : (Jvm.Cond.instanceMethod ({ cls := "java/util/BitSet", name := "expandTo", desc := "(I)V" } : Jvm.MethodName)) ∈ lw_all := lw_g (lw_at lw_m9 82 rfl) rfl
theorem q2050 : (Jvm.Cond.code ({ cls := "java/util/BitSet", name := "expandTo", desc := "(I)V" } : Jvm.MethodName) prog_60_method_15_code (3 : Nat) (Option.none : Option Jvm.ClassFile.FieldType)) ∈ lw_all := lw_g (lw_at lw_m9 83 rfl) rfl
theorem q2051 : (Jvm.Cond.methodLink "java/util/BitSet" (139 : Nat) ({ cls := "java/util/BitSet", name := "ensureCapacity", desc := "(I)V" } : Jvm.MethodName)) ∈ lw_all := lw_g (lw_at lw_m9 84 rfl) rfl
theorem q2052 : (Jvm.Cond.privateMethod ({ cls := "java/util/BitSet", name := "ensureCapacity", desc := "(I)V" } : Jvm.MethodName)) ∈ lw_tbl := lw_at lw_m9 85 rfl
theorem q2053 : (Jvm.Cond.instanceMethod ({ cls := "java/util/BitSet", name := "ensureCapacity", desc := "(I)V" } : Jvm.MethodName)) ∈ lw_all := lw_g (lw_at lw_m9 86 rfl) rfl
theorem q2054 : (Jvm.Cond.code ({ cls := "java/util/BitSet", name := "ensureCapacity", desc := "(I)V" } : Jvm.MethodName) prog_60_method_14_code (3 : Nat) (Option.none : Option Jvm.ClassFile.FieldType)) ∈ lw_all := lw_g (lw_at lw_m9 87 rfl) rfl
theorem q2055 : (Jvm.Cond.methodLink "java/util/BitSet" (133 : Nat) ({ cls := "java/lang/Math", name := "max", desc := "(II)I" } : Jvm.MethodName)) ∈ lw_all := lw_g (lw_at lw_m9 88 rfl) rfl
theorem q2056 : (Jvm.Cond.methodLink "java/util/BitSet" (59 : Nat) ({ cls := "java/util/Arrays", name := "copyOf", desc := "([JI)[J" } : Jvm.MethodName)) ∈ lw_all := lw_g (lw_at lw_m9 89 rfl) rfl
theorem q2081 : (Jvm.Cond.instanceMethod ({ cls := "java/util/BitSet", name := "cardinality", desc := "()I" } : Jvm.MethodName)) ∈ lw_all := lw_g (lw_at lw_m9 114 rfl) rfl
theorem q2082 : (Jvm.Cond.selects "java/util/BitSet" ({ cls := "java/util/BitSet", name := "cardinality", desc := "()I" } : Jvm.MethodName) ({ cls := "java/util/BitSet", name := "cardinality", desc := "()I" } : Jvm.MethodName)) ∈ lw_all := lw_g (lw_at lw_m9 115 rfl) rfl
theorem q2083 : (Jvm.Cond.code ({ cls := "java/util/BitSet", name := "cardinality", desc := "()I" } : Jvm.MethodName) prog_60_method_35_code (3 : Nat) (Option.some Jvm.ClassFile.FieldType.int)) ∈ lw_all := lw_g (lw_at lw_m9 116 rfl) rfl
theorem q2084 : (Jvm.Cond.methodLink "java/util/BitSet" (196 : Nat) ({ cls := "java/lang/Long", name := "bitCount", desc := "(J)I" } : Jvm.MethodName)) ∈ lw_all := lw_g (lw_at lw_m9 117 rfl) rfl
theorem q2098 : (Jvm.Cond.instanceMethod ({ cls := "java/util/BitSet", name := "clear", desc := "(I)V" } : Jvm.MethodName)) ∈ lw_all := lw_g (lw_at lw_m9 131 rfl) rfl
theorem q2099 : (Jvm.Cond.selects "java/util/BitSet" ({ cls := "java/util/BitSet", name := "clear", desc := "(I)V" } : Jvm.MethodName) ({ cls := "java/util/BitSet", name := "clear", desc := "(I)V" } : Jvm.MethodName)) ∈ lw_all := lw_g (lw_at lw_m9 132 rfl) rfl
theorem q2100 : (Jvm.Cond.code ({ cls := "java/util/BitSet", name := "clear", desc := "(I)V" } : Jvm.MethodName) prog_60_method_23_code (3 : Nat) (Option.none : Option Jvm.ClassFile.FieldType)) ∈ lw_all := lw_g (lw_at lw_m9 133 rfl) rfl
theorem q2101 : (Jvm.Cond.constantLong "java/util/BitSet" (165 : Nat) (-1 : Int64)) ∈ lw_all := lw_g (lw_at lw_m9 134 rfl) rfl
theorem q2102 : (Jvm.Cond.methodLink "java/util/BitSet" (158 : Nat) ({ cls := "java/util/BitSet", name := "recalculateWordsInUse", desc := "()V" } : Jvm.MethodName)) ∈ lw_all := lw_g (lw_at lw_m9 135 rfl) rfl
theorem q2103 : (Jvm.Cond.privateMethod ({ cls := "java/util/BitSet", name := "recalculateWordsInUse", desc := "()V" } : Jvm.MethodName)) ∈ lw_tbl := lw_at lw_m9 136 rfl
theorem q2104 : (Jvm.Cond.instanceMethod ({ cls := "java/util/BitSet", name := "recalculateWordsInUse", desc := "()V" } : Jvm.MethodName)) ∈ lw_all := lw_g (lw_at lw_m9 137 rfl) rfl
theorem q2105 : (Jvm.Cond.code ({ cls := "java/util/BitSet", name := "recalculateWordsInUse", desc := "()V" } : Jvm.MethodName) prog_60_method_3_code (2 : Nat) (Option.none : Option Jvm.ClassFile.FieldType)) ∈ lw_all := lw_g (lw_at lw_m9 138 rfl) rfl
theorem q2559 : (Jvm.Cond.castable "java/util/BitSet" "java/lang/Object") ∈ lw_tbl := lw_at lw_m11 112 rfl
theorem in_J0 : ∀ w ∈ wsJ00, w ∈ lw_all := lw_in wsJ00 [132, 134, 136] (by decide +kernel) (by decide +kernel)

/-! java/util/AbstractCollection -/
set_option maxRecDepth 100000
def RJ1 : String := "java/util/AbstractCollection"
abbrev cJ1_init : ByteArray := prog_49_method_1_code
def yJ1_init : MethodName := ⟨RJ1, "<init>", "()V"⟩
theorem dJ1_init_0 : decode cJ1_init 0 = .ok (.aload_n 0, 1) := by decide +kernel
theorem dJ1_init_1 : decode cJ1_init 1 = .ok (.invokespecial 1, 3) := by decide +kernel
theorem dJ1_init_4 : decode cJ1_init 4 = .ok (.return_, 1) := by decide +kernel
theorem q50 : (Jvm.Cond.initialized "java/util/AbstractCollection") ∈ lw_all := lw_g (lw_at lw_m1 3 rfl) rfl
theorem q150 : (Jvm.Cond.instanceMethod ({ cls := "java/util/AbstractCollection", name := "<init>", desc := "()V" } : Jvm.MethodName)) ∈ lw_all := lw_g (lw_at lw_m1 103 rfl) rfl
theorem q151 : (Jvm.Cond.code ({ cls := "java/util/AbstractCollection", name := "<init>", desc := "()V" } : Jvm.MethodName) prog_49_method_1_code (1 : Nat) (Option.none : Option Jvm.ClassFile.FieldType)) ∈ lw_all := lw_g (lw_at lw_m1 104 rfl) rfl
theorem q152 : (Jvm.Cond.methodLink "java/util/AbstractCollection" (1 : Nat) ({ cls := "java/lang/Object", name := "<init>", desc := "()V" } : Jvm.MethodName)) ∈ lw_all := lw_g (lw_at lw_m1 105 rfl) rfl
theorem q677 : (Jvm.Cond.declares ({ cls := "java/util/AbstractCollection", name := "size", desc := "()I" } : Jvm.MethodName)) ∈ lw_tbl := lw_at lw_m3 150 rfl

/-! java/util/AbstractList -/
set_option maxRecDepth 100000
def RJ2 : String := "java/util/AbstractList"
abbrev cJ2_init : ByteArray := prog_50_method_1_code
def yJ2_init : MethodName := ⟨RJ2, "<init>", "()V"⟩
def dkwJ2_init_0 : List UInt8 := [42, 183, 0, 1, 42, 3, 181, 0, 7, 177]
abbrev dktJ2_init_0 : List UInt8 := dkwJ2_init_0 ++ []
theorem dksJ2_init_0 : cJ2_init.data.toList.drop 0 = dktJ2_init_0 := by decide +kernel
theorem dJ2_init_0 : decode cJ2_init 0 = .ok (.aload_n 0, 1) := dk_42 (dk_at dksJ2_init_0 0 rfl rfl)
theorem dJ2_init_1 : decode cJ2_init 1 = .ok (.invokespecial 1, 3) := dk_183 0 1 (dk_at dksJ2_init_0 1 rfl rfl)
theorem dJ2_init_4 : decode cJ2_init 4 = .ok (.aload_n 0, 1) := dk_42 (dk_at dksJ2_init_0 4 rfl rfl)
theorem dJ2_init_5 : decode cJ2_init 5 = .ok (.iconst 0, 1) := dk_3 (dk_at dksJ2_init_0 5 rfl rfl)
theorem dJ2_init_6 : decode cJ2_init 6 = .ok (.putfield 7, 3) := dk_181 0 7 (dk_at dksJ2_init_0 6 rfl rfl)
theorem dJ2_init_9 : decode cJ2_init 9 = .ok (.return_, 1) := dk_177 (dk_at dksJ2_init_0 9 rfl rfl)
abbrev cJ2_listIterator : ByteArray := prog_50_method_12_code
def yJ2_listIterator : MethodName := ⟨RJ2, "listIterator", "()Ljava/util/ListIterator;"⟩
def dkwJ2_listIterator_0 : List UInt8 := [42, 3, 182, 0, 47, 176]
abbrev dktJ2_listIterator_0 : List UInt8 := dkwJ2_listIterator_0 ++ []
theorem dksJ2_listIterator_0 : cJ2_listIterator.data.toList.drop 0 = dktJ2_listIterator_0 := by decide +kernel
theorem dJ2_listIterator_0 : decode cJ2_listIterator 0 = .ok (.aload_n 0, 1) := dk_42 (dk_at dksJ2_listIterator_0 0 rfl rfl)
theorem dJ2_listIterator_1 : decode cJ2_listIterator 1 = .ok (.iconst 0, 1) := dk_3 (dk_at dksJ2_listIterator_0 1 rfl rfl)
theorem dJ2_listIterator_2 : decode cJ2_listIterator 2 = .ok (.invokevirtual 47, 3) := dk_182 0 47 (dk_at dksJ2_listIterator_0 2 rfl rfl)
theorem dJ2_listIterator_5 : decode cJ2_listIterator 5 = .ok (.areturn, 1) := dk_176 (dk_at dksJ2_listIterator_0 5 rfl rfl)
theorem q51 : (Jvm.Cond.initialized "java/util/AbstractList") ∈ lw_all := lw_g (lw_at lw_m1 4 rfl) rfl
theorem q147 : (Jvm.Cond.instanceMethod ({ cls := "java/util/AbstractList", name := "<init>", desc := "()V" } : Jvm.MethodName)) ∈ lw_all := lw_g (lw_at lw_m1 100 rfl) rfl
theorem q148 : (Jvm.Cond.code ({ cls := "java/util/AbstractList", name := "<init>", desc := "()V" } : Jvm.MethodName) prog_50_method_1_code (1 : Nat) (Option.none : Option Jvm.ClassFile.FieldType)) ∈ lw_all := lw_g (lw_at lw_m1 101 rfl) rfl
theorem q149 : (Jvm.Cond.methodLink "java/util/AbstractList" (1 : Nat) ({ cls := "java/util/AbstractCollection", name := "<init>", desc := "()V" } : Jvm.MethodName)) ∈ lw_all := lw_g (lw_at lw_m1 102 rfl) rfl
theorem q479 : (Jvm.Cond.fieldLink "java/util/AbstractList" (7 : Nat) "java/util/AbstractList" "modCount" "I") ∈ lw_all := lw_g (lw_at lw_m2 192 rfl) rfl
theorem q493 : (Jvm.Cond.soleField "java/util/AbstractList" "modCount") ∈ lw_all := lw_g (lw_at lw_m2 206 rfl) rfl
theorem q676 : (Jvm.Cond.sameMethod "java/util/AbstractList" "java/util/AbstractCollection" "size" "()I") ∈ lw_all := lw_g (lw_at lw_m3 149 rfl) rfl
theorem q729 : (Jvm.Cond.declares ({ cls := "java/util/AbstractList", name := "get", desc := "(I)Ljava/lang/Object;" } : Jvm.MethodName)) ∈ lw_tbl := lw_at lw_m3 202 rfl
theorem q730 : (Jvm.Cond.sameMethod "java/util/AbstractList" "java/util/AbstractList" "get" "(I)Ljava/lang/Object;") ∈ lw_all := lw_g (lw_at lw_m3 203 rfl) rfl
theorem q1376 : (Jvm.Cond.declares ({ cls := "java/util/AbstractList", name := "listIterator", desc := "()Ljava/util/ListIterator;" } : Jvm.MethodName)) ∈ lw_tbl := lw_at lw_m6 129 rfl
theorem q1378 : (Jvm.Cond.instanceMethod ({ cls := "java/util/AbstractList", name := "listIterator", desc := "()Ljava/util/ListIterator;" } : Jvm.MethodName)) ∈ lw_all := lw_g (lw_at lw_m6 131 rfl) rfl
theorem q1379 : (Jvm.Cond.code ({ cls := "java/util/AbstractList", name := "listIterator", desc := "()Ljava/util/ListIterator;" } : Jvm.MethodName) prog_50_method_12_code (1 : Nat) (Option.some (Jvm.ClassFile.FieldType.object "java/util/ListIterator"))) ∈ lw_all := lw_g (lw_at lw_m6 132 rfl) rfl
theorem q1380 : (Jvm.Cond.methodLink "java/util/AbstractList" (47 : Nat) ({ cls := "java/util/AbstractList", name := "listIterator", desc := "(I)Ljava/util/ListIterator;" } : Jvm.MethodName)) ∈ lw_all := lw_g (lw_at lw_m6 133 rfl) rfl
theorem q1381 : (Jvm.Cond.instanceMethod ({ cls := "java/util/AbstractList", name := "listIterator", desc := "(I)Ljava/util/ListIterator;" } : Jvm.MethodName)) ∈ lw_all := lw_g (lw_at lw_m6 134 rfl) rfl
theorem q1382 : (Jvm.Cond.sameMethod "java/util/AbstractList" "java/util/AbstractList" "listIterator" "(I)Ljava/util/ListIterator;") ∈ lw_all := lw_g (lw_at lw_m6 135 rfl) rfl
theorem q1447 : (Jvm.Cond.declares ({ cls := "java/util/AbstractList", name := "listIterator", desc := "(I)Ljava/util/ListIterator;" } : Jvm.MethodName)) ∈ lw_tbl := lw_at lw_m6 200 rfl
theorem q1471 : (Jvm.Cond.instanceMethod ({ cls := "java/util/AbstractList", name := "remove", desc := "(I)Ljava/lang/Object;" } : Jvm.MethodName)) ∈ lw_all := lw_g (lw_at lw_m6 224 rfl) rfl
theorem q1472 : (Jvm.Cond.sameMethod "java/util/AbstractList" "java/util/AbstractList" "remove" "(I)Ljava/lang/Object;") ∈ lw_all := lw_g (lw_at lw_m6 225 rfl) rfl
theorem q1488 : (Jvm.Cond.declares ({ cls := "java/util/AbstractList", name := "remove", desc := "(I)Ljava/lang/Object;" } : Jvm.MethodName)) ∈ lw_tbl := lw_at lw_m7 1 rfl
theorem q1873 : (Jvm.Cond.publicMethod ({ cls := "java/util/AbstractList", name := "listIterator", desc := "()Ljava/util/ListIterator;" } : Jvm.MethodName)) ∈ lw_tbl := lw_at lw_m8 146 rfl
theorem q1952 : (Jvm.Cond.instanceMethod ({ cls := "java/util/AbstractList", name := "set", desc := "(ILjava/lang/Object;)Ljava/lang/Object;" } : Jvm.MethodName)) ∈ lw_all := lw_g (lw_at lw_m8 225 rfl) rfl
theorem q1953 : (Jvm.Cond.sameMethod "java/util/AbstractList" "java/util/AbstractList" "set" "(ILjava/lang/Object;)Ljava/lang/Object;") ∈ lw_all := lw_g (lw_at lw_m8 226 rfl) rfl
theorem q1956 : (Jvm.Cond.declares ({ cls := "java/util/AbstractList", name := "set", desc := "(ILjava/lang/Object;)Ljava/lang/Object;" } : Jvm.MethodName)) ∈ lw_tbl := lw_at lw_m8 229 rfl

/-! java/util/ArrayList -/
set_option maxRecDepth 100000
def RJ3 : String := "java/util/ArrayList"
def TJ3 : u_T := fun k => match k with
  | 0 => ("java/util/AbstractList", "modCount", "I", false)
  | 1 => ("java/util/ArrayList", "elementData", "[Ljava/lang/Object;", false)
  | _ => ("java/util/ArrayList", "size", "I", false)
def tyJ3 : Nat → FieldType := fun k => match k with
  | 0 => .int
  | 1 => .array (.object "java/lang/Object")
  | _ => .int
abbrev wsJ30 : List Cond := u_ws RJ3 TJ3 3
theorem nmJ3 : ∀ a, a < 3 → ∀ b, b < 3 → a ≠ b → (TJ3 a).2.1 ≠ (TJ3 b).2.1 := by decide +kernel
theorem tyJ3_ok : ∀ k, k < 3 → parseFieldDescriptor (TJ3 k).2.2.1 = some (tyJ3 k) := by decide +kernel
abbrev cJ3_init : ByteArray := prog_56_method_1_code
def yJ3_init : MethodName := ⟨RJ3, "<init>", "(I)V"⟩
def dkwJ3_init_2 : List UInt8 := [182, 0, 25, 27, 182, 0, 29, 182, 0, 32, 183, 0, 36, 191, 177]
abbrev dktJ3_init_2 : List UInt8 := dkwJ3_init_2 ++ []
def dkwJ3_init_1 : List UInt8 := [178, 0, 15, 181, 0, 9, 167, 0, 30, 187, 0, 18, 89, 187, 0, 20, 89, 183, 0, 22, 18, 23]
abbrev dktJ3_init_1 : List UInt8 := dkwJ3_init_1 ++ dktJ3_init_2
def dkwJ3_init_0 : List UInt8 := [42, 183, 0, 1, 27, 158, 0, 14, 42, 27, 189, 0, 7, 181, 0, 9, 167, 0, 44, 27, 154, 0, 13, 42]
abbrev dktJ3_init_0 : List UInt8 := dkwJ3_init_0 ++ dktJ3_init_1
theorem dksJ3_init_0 : cJ3_init.data.toList.drop 0 = dktJ3_init_0 := by decide +kernel
theorem dksJ3_init_1 : cJ3_init.data.toList.drop 24 = dktJ3_init_1 := dk_seg dksJ3_init_0 24 rfl rfl
theorem dksJ3_init_2 : cJ3_init.data.toList.drop 46 = dktJ3_init_2 := dk_seg dksJ3_init_1 22 rfl rfl
theorem dJ3_init_0 : decode cJ3_init 0 = .ok (.aload_n 0, 1) := dk_42 (dk_at dksJ3_init_0 0 rfl rfl)
theorem dJ3_init_1 : decode cJ3_init 1 = .ok (.invokespecial 1, 3) := dk_183 0 1 (dk_at dksJ3_init_0 1 rfl rfl)
theorem dJ3_init_4 : decode cJ3_init 4 = .ok (.iload_n 1, 1) := dk_27 (dk_at dksJ3_init_0 4 rfl rfl)
theorem dJ3_init_5 : decode cJ3_init 5 = .ok (.ifCond .le 14, 3) := dk_158 0 14 (dk_at dksJ3_init_0 5 rfl rfl)
theorem dJ3_init_8 : decode cJ3_init 8 = .ok (.aload_n 0, 1) := dk_42 (dk_at dksJ3_init_0 8 rfl rfl)
theorem dJ3_init_9 : decode cJ3_init 9 = .ok (.iload_n 1, 1) := dk_27 (dk_at dksJ3_init_0 9 rfl rfl)
theorem dJ3_init_10 : decode cJ3_init 10 = .ok (.anewarray 7, 3) := dk_189 0 7 (dk_at dksJ3_init_0 10 rfl rfl)
theorem dJ3_init_13 : decode cJ3_init 13 = .ok (.putfield 9, 3) := dk_181 0 9 (dk_at dksJ3_init_0 13 rfl rfl)
theorem dJ3_init_16 : decode cJ3_init 16 = .ok (.goto 44, 3) := dk_167 0 44 (dk_at dksJ3_init_0 16 rfl rfl)
theorem dJ3_init_19 : decode cJ3_init 19 = .ok (.iload_n 1, 1) := dk_27 (dk_at dksJ3_init_0 19 rfl rfl)
theorem dJ3_init_20 : decode cJ3_init 20 = .ok (.ifCond .ne 13, 3) := dk_154 0 13 (dk_at dksJ3_init_0 20 rfl rfl)
theorem dJ3_init_23 : decode cJ3_init 23 = .ok (.aload_n 0, 1) := dk_42 (dk_at dksJ3_init_0 23 rfl rfl)
theorem dJ3_init_24 : decode cJ3_init 24 = .ok (.getstatic 15, 3) := dk_178 0 15 (dk_at dksJ3_init_1 0 rfl rfl)
theorem dJ3_init_27 : decode cJ3_init 27 = .ok (.putfield 9, 3) := dk_181 0 9 (dk_at dksJ3_init_1 3 rfl rfl)
theorem dJ3_init_30 : decode cJ3_init 30 = .ok (.goto 30, 3) := dk_167 0 30 (dk_at dksJ3_init_1 6 rfl rfl)
theorem dJ3_init_33 : decode cJ3_init 33 = .ok (.new 18, 3) := dk_187 0 18 (dk_at dksJ3_init_1 9 rfl rfl)
theorem dJ3_init_36 : decode cJ3_init 36 = .ok (.dup, 1) := dk_89 (dk_at dksJ3_init_1 12 rfl rfl)
theorem dJ3_init_37 : decode cJ3_init 37 = .ok (.new 20, 3) := dk_187 0 20 (dk_at dksJ3_init_1 13 rfl rfl)
theorem dJ3_init_40 : decode cJ3_init 40 = .ok (.dup, 1) := dk_89 (dk_at dksJ3_init_1 16 rfl rfl)
theorem dJ3_init_41 : decode cJ3_init 41 = .ok (.invokespecial 22, 3) := dk_183 0 22 (dk_at dksJ3_init_1 17 rfl rfl)
theorem dJ3_init_44 : decode cJ3_init 44 = .ok (.ldc 23, 2) := dk_18 23 (dk_at dksJ3_init_1 20 rfl rfl)
theorem dJ3_init_46 : decode cJ3_init 46 = .ok (.invokevirtual 25, 3) := dk_182 0 25 (dk_at dksJ3_init_2 0 rfl rfl)
theorem dJ3_init_49 : decode cJ3_init 49 = .ok (.iload_n 1, 1) := dk_27 (dk_at dksJ3_init_2 3 rfl rfl)
theorem dJ3_init_50 : decode cJ3_init 50 = .ok (.invokevirtual 29, 3) := dk_182 0 29 (dk_at dksJ3_init_2 4 rfl rfl)
theorem dJ3_init_53 : decode cJ3_init 53 = .ok (.invokevirtual 32, 3) := dk_182 0 32 (dk_at dksJ3_init_2 7 rfl rfl)
theorem dJ3_init_56 : decode cJ3_init 56 = .ok (.invokespecial 36, 3) := dk_183 0 36 (dk_at dksJ3_init_2 10 rfl rfl)
theorem dJ3_init_59 : decode cJ3_init 59 = .ok (.athrow, 1) := dk_191 (dk_at dksJ3_init_2 13 rfl rfl)
theorem dJ3_init_60 : decode cJ3_init 60 = .ok (.return_, 1) := dk_177 (dk_at dksJ3_init_2 14 rfl rfl)
abbrev cJ3_size : ByteArray := prog_56_method_8_code
def yJ3_size : MethodName := ⟨RJ3, "size", "()I"⟩
theorem dJ3_size_0 : decode cJ3_size 0 = .ok (.aload_n 0, 1) := by decide +kernel
theorem dJ3_size_1 : decode cJ3_size 1 = .ok (.getfield 48, 3) := by decide +kernel
theorem dJ3_size_4 : decode cJ3_size 4 = .ok (.ireturn, 1) := by decide +kernel
abbrev cJ3_get : ByteArray := prog_56_method_20_code
def yJ3_get : MethodName := ⟨RJ3, "get", "(I)Ljava/lang/Object;"⟩
def dkwJ3_get_0 : List UInt8 := [27, 42, 180, 0, 48, 184, 0, 118, 87, 42, 27, 182, 0, 123, 176]
abbrev dktJ3_get_0 : List UInt8 := dkwJ3_get_0 ++ []
theorem dksJ3_get_0 : cJ3_get.data.toList.drop 0 = dktJ3_get_0 := by decide +kernel
theorem dJ3_get_0 : decode cJ3_get 0 = .ok (.iload_n 1, 1) := dk_27 (dk_at dksJ3_get_0 0 rfl rfl)
theorem dJ3_get_1 : decode cJ3_get 1 = .ok (.aload_n 0, 1) := dk_42 (dk_at dksJ3_get_0 1 rfl rfl)
theorem dJ3_get_2 : decode cJ3_get 2 = .ok (.getfield 48, 3) := dk_180 0 48 (dk_at dksJ3_get_0 2 rfl rfl)
theorem dJ3_get_5 : decode cJ3_get 5 = .ok (.invokestatic 118, 3) := dk_184 0 118 (dk_at dksJ3_get_0 5 rfl rfl)
theorem dJ3_get_8 : decode cJ3_get 8 = .ok (.pop, 1) := dk_87 (dk_at dksJ3_get_0 8 rfl rfl)
theorem dJ3_get_9 : decode cJ3_get 9 = .ok (.aload_n 0, 1) := dk_42 (dk_at dksJ3_get_0 9 rfl rfl)
theorem dJ3_get_10 : decode cJ3_get 10 = .ok (.iload_n 1, 1) := dk_27 (dk_at dksJ3_get_0 10 rfl rfl)
theorem dJ3_get_11 : decode cJ3_get 11 = .ok (.invokevirtual 123, 3) := dk_182 0 123 (dk_at dksJ3_get_0 11 rfl rfl)
theorem dJ3_get_14 : decode cJ3_get 14 = .ok (.areturn, 1) := dk_176 (dk_at dksJ3_get_0 14 rfl rfl)
abbrev cJ3_elementData : ByteArray := prog_56_method_18_code
def yJ3_elementData : MethodName := ⟨RJ3, "elementData", "(I)Ljava/lang/Object;"⟩
def dkwJ3_elementData_0 : List UInt8 := [42, 180, 0, 9, 27, 50, 176]
abbrev dktJ3_elementData_0 : List UInt8 := dkwJ3_elementData_0 ++ []
theorem dksJ3_elementData_0 : cJ3_elementData.data.toList.drop 0 = dktJ3_elementData_0 := by decide +kernel
theorem dJ3_elementData_0 : decode cJ3_elementData 0 = .ok (.aload_n 0, 1) := dk_42 (dk_at dksJ3_elementData_0 0 rfl rfl)
theorem dJ3_elementData_1 : decode cJ3_elementData 1 = .ok (.getfield 9, 3) := dk_180 0 9 (dk_at dksJ3_elementData_0 1 rfl rfl)
theorem dJ3_elementData_4 : decode cJ3_elementData 4 = .ok (.iload_n 1, 1) := dk_27 (dk_at dksJ3_elementData_0 4 rfl rfl)
theorem dJ3_elementData_5 : decode cJ3_elementData 5 = .ok (.aaload, 1) := dk_50 (dk_at dksJ3_elementData_0 5 rfl rfl)
theorem dJ3_elementData_6 : decode cJ3_elementData 6 = .ok (.areturn, 1) := dk_176 (dk_at dksJ3_elementData_0 6 rfl rfl)
abbrev cJ3_iterator : ByteArray := prog_56_method_55_code
def yJ3_iterator : MethodName := ⟨RJ3, "iterator", "()Ljava/util/Iterator;"⟩
def dkwJ3_iterator_0 : List UInt8 := [187, 1, 11, 89, 42, 183, 1, 13, 176]
abbrev dktJ3_iterator_0 : List UInt8 := dkwJ3_iterator_0 ++ []
theorem dksJ3_iterator_0 : cJ3_iterator.data.toList.drop 0 = dktJ3_iterator_0 := by decide +kernel
theorem dJ3_iterator_0 : decode cJ3_iterator 0 = .ok (.new 267, 3) := dk_187 1 11 (dk_at dksJ3_iterator_0 0 rfl rfl)
theorem dJ3_iterator_3 : decode cJ3_iterator 3 = .ok (.dup, 1) := dk_89 (dk_at dksJ3_iterator_0 3 rfl rfl)
theorem dJ3_iterator_4 : decode cJ3_iterator 4 = .ok (.aload_n 0, 1) := dk_42 (dk_at dksJ3_iterator_0 4 rfl rfl)
theorem dJ3_iterator_5 : decode cJ3_iterator 5 = .ok (.invokespecial 269, 3) := dk_183 1 13 (dk_at dksJ3_iterator_0 5 rfl rfl)
theorem dJ3_iterator_8 : decode cJ3_iterator 8 = .ok (.areturn, 1) := dk_176 (dk_at dksJ3_iterator_0 8 rfl rfl)
abbrev cJ3_listIterator : ByteArray := prog_56_method_53_code
def yJ3_listIterator : MethodName := ⟨RJ3, "listIterator", "(I)Ljava/util/ListIterator;"⟩
def dkwJ3_listIterator_0 : List UInt8 := [42, 27, 182, 0, 135, 187, 1, 6, 89, 42, 27, 183, 1, 8, 176]
abbrev dktJ3_listIterator_0 : List UInt8 := dkwJ3_listIterator_0 ++ []
theorem dksJ3_listIterator_0 : cJ3_listIterator.data.toList.drop 0 = dktJ3_listIterator_0 := by decide +kernel
theorem dJ3_listIterator_0 : decode cJ3_listIterator 0 = .ok (.aload_n 0, 1) := dk_42 (dk_at dksJ3_listIterator_0 0 rfl rfl)
theorem dJ3_listIterator_1 : decode cJ3_listIterator 1 = .ok (.iload_n 1, 1) := dk_27 (dk_at dksJ3_listIterator_0 1 rfl rfl)
theorem dJ3_listIterator_2 : decode cJ3_listIterator 2 = .ok (.invokevirtual 135, 3) := dk_182 0 135 (dk_at dksJ3_listIterator_0 2 rfl rfl)
theorem dJ3_listIterator_5 : decode cJ3_listIterator 5 = .ok (.new 262, 3) := dk_187 1 6 (dk_at dksJ3_listIterator_0 5 rfl rfl)
theorem dJ3_listIterator_8 : decode cJ3_listIterator 8 = .ok (.dup, 1) := dk_89 (dk_at dksJ3_listIterator_0 8 rfl rfl)
theorem dJ3_listIterator_9 : decode cJ3_listIterator 9 = .ok (.aload_n 0, 1) := dk_42 (dk_at dksJ3_listIterator_0 9 rfl rfl)
theorem dJ3_listIterator_10 : decode cJ3_listIterator 10 = .ok (.iload_n 1, 1) := dk_27 (dk_at dksJ3_listIterator_0 10 rfl rfl)
theorem dJ3_listIterator_11 : decode cJ3_listIterator 11 = .ok (.invokespecial 264, 3) := dk_183 1 8 (dk_at dksJ3_listIterator_0 11 rfl rfl)
theorem dJ3_listIterator_14 : decode cJ3_listIterator 14 = .ok (.areturn, 1) := dk_176 (dk_at dksJ3_listIterator_0 14 rfl rfl)
abbrev cJ3_rangeCheckForAdd : ByteArray := prog_56_method_45_code
def yJ3_rangeCheckForAdd : MethodName := ⟨RJ3, "rangeCheckForAdd", "(I)V"⟩
def dkwJ3_rangeCheckForAdd_1 : List UInt8 := [191, 177]
abbrev dktJ3_rangeCheckForAdd_1 : List UInt8 := dkwJ3_rangeCheckForAdd_1 ++ []
def dkwJ3_rangeCheckForAdd_0 : List UInt8 := [27, 42, 180, 0, 48, 163, 0, 7, 27, 156, 0, 16, 187, 0, 187, 89, 42, 27, 182, 0, 198, 183, 0, 193]
abbrev dktJ3_rangeCheckForAdd_0 : List UInt8 := dkwJ3_rangeCheckForAdd_0 ++ dktJ3_rangeCheckForAdd_1
theorem dksJ3_rangeCheckForAdd_0 : cJ3_rangeCheckForAdd.data.toList.drop 0 = dktJ3_rangeCheckForAdd_0 := by decide +kernel
theorem dksJ3_rangeCheckForAdd_1 : cJ3_rangeCheckForAdd.data.toList.drop 24 = dktJ3_rangeCheckForAdd_1 := dk_seg dksJ3_rangeCheckForAdd_0 24 rfl rfl
theorem dJ3_rangeCheckForAdd_0 : decode cJ3_rangeCheckForAdd 0 = .ok (.iload_n 1, 1) := dk_27 (dk_at dksJ3_rangeCheckForAdd_0 0 rfl rfl)
theorem dJ3_rangeCheckForAdd_1 : decode cJ3_rangeCheckForAdd 1 = .ok (.aload_n 0, 1) := dk_42 (dk_at dksJ3_rangeCheckForAdd_0 1 rfl rfl)
theorem dJ3_rangeCheckForAdd_2 : decode cJ3_rangeCheckForAdd 2 = .ok (.getfield 48, 3) := dk_180 0 48 (dk_at dksJ3_rangeCheckForAdd_0 2 rfl rfl)
theorem dJ3_rangeCheckForAdd_5 : decode cJ3_rangeCheckForAdd 5 = .ok (.if_icmp .gt 7, 3) := dk_163 0 7 (dk_at dksJ3_rangeCheckForAdd_0 5 rfl rfl)
theorem dJ3_rangeCheckForAdd_8 : decode cJ3_rangeCheckForAdd 8 = .ok (.iload_n 1, 1) := dk_27 (dk_at dksJ3_rangeCheckForAdd_0 8 rfl rfl)
theorem dJ3_rangeCheckForAdd_9 : decode cJ3_rangeCheckForAdd 9 = .ok (.ifCond .ge 16, 3) := dk_156 0 16 (dk_at dksJ3_rangeCheckForAdd_0 9 rfl rfl)
theorem dJ3_rangeCheckForAdd_12 : decode cJ3_rangeCheckForAdd 12 = .ok (.new 187, 3) := dk_187 0 187 (dk_at dksJ3_rangeCheckForAdd_0 12 rfl rfl)
theorem dJ3_rangeCheckForAdd_15 : decode cJ3_rangeCheckForAdd 15 = .ok (.dup, 1) := dk_89 (dk_at dksJ3_rangeCheckForAdd_0 15 rfl rfl)
theorem dJ3_rangeCheckForAdd_16 : decode cJ3_rangeCheckForAdd 16 = .ok (.aload_n 0, 1) := dk_42 (dk_at dksJ3_rangeCheckForAdd_0 16 rfl rfl)
theorem dJ3_rangeCheckForAdd_17 : decode cJ3_rangeCheckForAdd 17 = .ok (.iload_n 1, 1) := dk_27 (dk_at dksJ3_rangeCheckForAdd_0 17 rfl rfl)
theorem dJ3_rangeCheckForAdd_18 : decode cJ3_rangeCheckForAdd 18 = .ok (.invokevirtual 198, 3) := dk_182 0 198 (dk_at dksJ3_rangeCheckForAdd_0 18 rfl rfl)
theorem dJ3_rangeCheckForAdd_21 : decode cJ3_rangeCheckForAdd 21 = .ok (.invokespecial 193, 3) := dk_183 0 193 (dk_at dksJ3_rangeCheckForAdd_0 21 rfl rfl)
theorem dJ3_rangeCheckForAdd_24 : decode cJ3_rangeCheckForAdd 24 = .ok (.athrow, 1) := dk_191 (dk_at dksJ3_rangeCheckForAdd_1 0 rfl rfl)
theorem dJ3_rangeCheckForAdd_25 : decode cJ3_rangeCheckForAdd 25 = .ok (.return_, 1) := dk_177 (dk_at dksJ3_rangeCheckForAdd_1 1 rfl rfl)
abbrev cJ3_outOfBoundsMsg : ByteArray := prog_56_method_46_code
def yJ3_outOfBoundsMsg : MethodName := ⟨RJ3, "outOfBoundsMsg", "(I)Ljava/lang/String;"⟩
def dkwJ3_outOfBoundsMsg_1 : List UInt8 := [180, 0, 48, 182, 0, 29, 182, 0, 32, 176]
abbrev dktJ3_outOfBoundsMsg_1 : List UInt8 := dkwJ3_outOfBoundsMsg_1 ++ []
def dkwJ3_outOfBoundsMsg_0 : List UInt8 := [187, 0, 20, 89, 183, 0, 22, 18, 201, 182, 0, 25, 27, 182, 0, 29, 18, 203, 182, 0, 25, 42]
abbrev dktJ3_outOfBoundsMsg_0 : List UInt8 := dkwJ3_outOfBoundsMsg_0 ++ dktJ3_outOfBoundsMsg_1
theorem dksJ3_outOfBoundsMsg_0 : cJ3_outOfBoundsMsg.data.toList.drop 0 = dktJ3_outOfBoundsMsg_0 := by decide +kernel
theorem dksJ3_outOfBoundsMsg_1 : cJ3_outOfBoundsMsg.data.toList.drop 22 = dktJ3_outOfBoundsMsg_1 := dk_seg dksJ3_outOfBoundsMsg_0 22 rfl rfl
theorem dJ3_outOfBoundsMsg_0 : decode cJ3_outOfBoundsMsg 0 = .ok (.new 20, 3) := dk_187 0 20 (dk_at dksJ3_outOfBoundsMsg_0 0 rfl rfl)
theorem dJ3_outOfBoundsMsg_3 : decode cJ3_outOfBoundsMsg 3 = .ok (.dup, 1) := dk_89 (dk_at dksJ3_outOfBoundsMsg_0 3 rfl rfl)
theorem dJ3_outOfBoundsMsg_4 : decode cJ3_outOfBoundsMsg 4 = .ok (.invokespecial 22, 3) := dk_183 0 22 (dk_at dksJ3_outOfBoundsMsg_0 4 rfl rfl)
theorem dJ3_outOfBoundsMsg_7 : decode cJ3_outOfBoundsMsg 7 = .ok (.ldc 201, 2) := dk_18 201 (dk_at dksJ3_outOfBoundsMsg_0 7 rfl rfl)
theorem dJ3_outOfBoundsMsg_9 : decode cJ3_outOfBoundsMsg 9 = .ok (.invokevirtual 25, 3) := dk_182 0 25 (dk_at dksJ3_outOfBoundsMsg_0 9 rfl rfl)
theorem dJ3_outOfBoundsMsg_12 : decode cJ3_outOfBoundsMsg 12 = .ok (.iload_n 1, 1) := dk_27 (dk_at dksJ3_outOfBoundsMsg_0 12 rfl rfl)
theorem dJ3_outOfBoundsMsg_13 : decode cJ3_outOfBoundsMsg 13 = .ok (.invokevirtual 29, 3) := dk_182 0 29 (dk_at dksJ3_outOfBoundsMsg_0 13 rfl rfl)
theorem dJ3_outOfBoundsMsg_16 : decode cJ3_outOfBoundsMsg 16 = .ok (.ldc 203, 2) := dk_18 203 (dk_at dksJ3_outOfBoundsMsg_0 16 rfl rfl)
theorem dJ3_outOfBoundsMsg_18 : decode cJ3_outOfBoundsMsg 18 = .ok (.invokevirtual 25, 3) := dk_182 0 25 (dk_at dksJ3_outOfBoundsMsg_0 18 rfl rfl)
theorem dJ3_outOfBoundsMsg_21 : decode cJ3_outOfBoundsMsg 21 = .ok (.aload_n 0, 1) := dk_42 (dk_at dksJ3_outOfBoundsMsg_0 21 rfl rfl)
theorem dJ3_outOfBoundsMsg_22 : decode cJ3_outOfBoundsMsg 22 = .ok (.getfield 48, 3) := dk_180 0 48 (dk_at dksJ3_outOfBoundsMsg_1 0 rfl rfl)
theorem dJ3_outOfBoundsMsg_25 : decode cJ3_outOfBoundsMsg 25 = .ok (.invokevirtual 29, 3) := dk_182 0 29 (dk_at dksJ3_outOfBoundsMsg_1 3 rfl rfl)
theorem dJ3_outOfBoundsMsg_28 : decode cJ3_outOfBoundsMsg 28 = .ok (.invokevirtual 32, 3) := dk_182 0 32 (dk_at dksJ3_outOfBoundsMsg_1 6 rfl rfl)
theorem dJ3_outOfBoundsMsg_31 : decode cJ3_outOfBoundsMsg 31 = .ok (.areturn, 1) := dk_176 (dk_at dksJ3_outOfBoundsMsg_1 9 rfl rfl)
abbrev cJ3_remove : ByteArray := prog_56_method_29_code
def yJ3_remove : MethodName := ⟨RJ3, "remove", "(I)Ljava/lang/Object;"⟩
def dkwJ3_remove_1 : List UInt8 := [45, 176]
abbrev dktJ3_remove_1 : List UInt8 := dkwJ3_remove_1 ++ []
def dkwJ3_remove_0 : List UInt8 := [27, 42, 180, 0, 48, 184, 0, 118, 87, 42, 180, 0, 9, 77, 44, 27, 50, 78, 42, 44, 27, 182, 0, 144]
abbrev dktJ3_remove_0 : List UInt8 := dkwJ3_remove_0 ++ dktJ3_remove_1
theorem dksJ3_remove_0 : cJ3_remove.data.toList.drop 0 = dktJ3_remove_0 := by decide +kernel
theorem dksJ3_remove_1 : cJ3_remove.data.toList.drop 24 = dktJ3_remove_1 := dk_seg dksJ3_remove_0 24 rfl rfl
theorem dJ3_remove_0 : decode cJ3_remove 0 = .ok (.iload_n 1, 1) := dk_27 (dk_at dksJ3_remove_0 0 rfl rfl)
theorem dJ3_remove_1 : decode cJ3_remove 1 = .ok (.aload_n 0, 1) := dk_42 (dk_at dksJ3_remove_0 1 rfl rfl)
theorem dJ3_remove_2 : decode cJ3_remove 2 = .ok (.getfield 48, 3) := dk_180 0 48 (dk_at dksJ3_remove_0 2 rfl rfl)
theorem dJ3_remove_5 : decode cJ3_remove 5 = .ok (.invokestatic 118, 3) := dk_184 0 118 (dk_at dksJ3_remove_0 5 rfl rfl)
theorem dJ3_remove_8 : decode cJ3_remove 8 = .ok (.pop, 1) := dk_87 (dk_at dksJ3_remove_0 8 rfl rfl)
theorem dJ3_remove_9 : decode cJ3_remove 9 = .ok (.aload_n 0, 1) := dk_42 (dk_at dksJ3_remove_0 9 rfl rfl)
theorem dJ3_remove_10 : decode cJ3_remove 10 = .ok (.getfield 9, 3) := dk_180 0 9 (dk_at dksJ3_remove_0 10 rfl rfl)
theorem dJ3_remove_13 : decode cJ3_remove 13 = .ok (.astore_n 2, 1) := dk_77 (dk_at dksJ3_remove_0 13 rfl rfl)
theorem dJ3_remove_14 : decode cJ3_remove 14 = .ok (.aload_n 2, 1) := dk_44 (dk_at dksJ3_remove_0 14 rfl rfl)
theorem dJ3_remove_15 : decode cJ3_remove 15 = .ok (.iload_n 1, 1) := dk_27 (dk_at dksJ3_remove_0 15 rfl rfl)
theorem dJ3_remove_16 : decode cJ3_remove 16 = .ok (.aaload, 1) := dk_50 (dk_at dksJ3_remove_0 16 rfl rfl)
theorem dJ3_remove_17 : decode cJ3_remove 17 = .ok (.astore_n 3, 1) := dk_78 (dk_at dksJ3_remove_0 17 rfl rfl)
theorem dJ3_remove_18 : decode cJ3_remove 18 = .ok (.aload_n 0, 1) := dk_42 (dk_at dksJ3_remove_0 18 rfl rfl)
theorem dJ3_remove_19 : decode cJ3_remove 19 = .ok (.aload_n 2, 1) := dk_44 (dk_at dksJ3_remove_0 19 rfl rfl)
theorem dJ3_remove_20 : decode cJ3_remove 20 = .ok (.iload_n 1, 1) := dk_27 (dk_at dksJ3_remove_0 20 rfl rfl)
theorem dJ3_remove_21 : decode cJ3_remove 21 = .ok (.invokevirtual 144, 3) := dk_182 0 144 (dk_at dksJ3_remove_0 21 rfl rfl)
theorem dJ3_remove_24 : decode cJ3_remove 24 = .ok (.aload_n 3, 1) := dk_45 (dk_at dksJ3_remove_1 0 rfl rfl)
theorem dJ3_remove_25 : decode cJ3_remove 25 = .ok (.areturn, 1) := dk_176 (dk_at dksJ3_remove_1 1 rfl rfl)
abbrev cJ3_fastRemove : ByteArray := prog_56_method_39_code
def yJ3_fastRemove : MethodName := ⟨RJ3, "fastRemove", "([Ljava/lang/Object;I)V"⟩
def dkwJ3_fastRemove_1 : List UInt8 := [4, 96, 43, 28, 29, 28, 100, 184, 0, 112, 43, 42, 29, 90, 181, 0, 48, 1, 83, 177]
abbrev dktJ3_fastRemove_1 : List UInt8 := dkwJ3_fastRemove_1 ++ []
def dkwJ3_fastRemove_0 : List UInt8 := [42, 89, 180, 0, 63, 4, 96, 181, 0, 63, 42, 180, 0, 48, 4, 100, 89, 62, 28, 164, 0, 15, 43, 28]
abbrev dktJ3_fastRemove_0 : List UInt8 := dkwJ3_fastRemove_0 ++ dktJ3_fastRemove_1
theorem dksJ3_fastRemove_0 : cJ3_fastRemove.data.toList.drop 0 = dktJ3_fastRemove_0 := by decide +kernel
theorem dksJ3_fastRemove_1 : cJ3_fastRemove.data.toList.drop 24 = dktJ3_fastRemove_1 := dk_seg dksJ3_fastRemove_0 24 rfl rfl
theorem dJ3_fastRemove_0 : decode cJ3_fastRemove 0 = .ok (.aload_n 0, 1) := dk_42 (dk_at dksJ3_fastRemove_0 0 rfl rfl)
theorem dJ3_fastRemove_1 : decode cJ3_fastRemove 1 = .ok (.dup, 1) := dk_89 (dk_at dksJ3_fastRemove_0 1 rfl rfl)
theorem dJ3_fastRemove_2 : decode cJ3_fastRemove 2 = .ok (.getfield 63, 3) := dk_180 0 63 (dk_at dksJ3_fastRemove_0 2 rfl rfl)
theorem dJ3_fastRemove_5 : decode cJ3_fastRemove 5 = .ok (.iconst 1, 1) := dk_4 (dk_at dksJ3_fastRemove_0 5 rfl rfl)
theorem dJ3_fastRemove_6 : decode cJ3_fastRemove 6 = .ok (.iadd, 1) := dk_96 (dk_at dksJ3_fastRemove_0 6 rfl rfl)
theorem dJ3_fastRemove_7 : decode cJ3_fastRemove 7 = .ok (.putfield 63, 3) := dk_181 0 63 (dk_at dksJ3_fastRemove_0 7 rfl rfl)
theorem dJ3_fastRemove_10 : decode cJ3_fastRemove 10 = .ok (.aload_n 0, 1) := dk_42 (dk_at dksJ3_fastRemove_0 10 rfl rfl)
theorem dJ3_fastRemove_11 : decode cJ3_fastRemove 11 = .ok (.getfield 48, 3) := dk_180 0 48 (dk_at dksJ3_fastRemove_0 11 rfl rfl)
theorem dJ3_fastRemove_14 : decode cJ3_fastRemove 14 = .ok (.iconst 1, 1) := dk_4 (dk_at dksJ3_fastRemove_0 14 rfl rfl)
theorem dJ3_fastRemove_15 : decode cJ3_fastRemove 15 = .ok (.isub, 1) := dk_100 (dk_at dksJ3_fastRemove_0 15 rfl rfl)
theorem dJ3_fastRemove_16 : decode cJ3_fastRemove 16 = .ok (.dup, 1) := dk_89 (dk_at dksJ3_fastRemove_0 16 rfl rfl)
theorem dJ3_fastRemove_17 : decode cJ3_fastRemove 17 = .ok (.istore_n 3, 1) := dk_62 (dk_at dksJ3_fastRemove_0 17 rfl rfl)
theorem dJ3_fastRemove_18 : decode cJ3_fastRemove 18 = .ok (.iload_n 2, 1) := dk_28 (dk_at dksJ3_fastRemove_0 18 rfl rfl)
theorem dJ3_fastRemove_19 : decode cJ3_fastRemove 19 = .ok (.if_icmp .le 15, 3) := dk_164 0 15 (dk_at dksJ3_fastRemove_0 19 rfl rfl)
theorem dJ3_fastRemove_22 : decode cJ3_fastRemove 22 = .ok (.aload_n 1, 1) := dk_43 (dk_at dksJ3_fastRemove_0 22 rfl rfl)
theorem dJ3_fastRemove_23 : decode cJ3_fastRemove 23 = .ok (.iload_n 2, 1) := dk_28 (dk_at dksJ3_fastRemove_0 23 rfl rfl)
theorem dJ3_fastRemove_24 : decode cJ3_fastRemove 24 = .ok (.iconst 1, 1) := dk_4 (dk_at dksJ3_fastRemove_1 0 rfl rfl)
theorem dJ3_fastRemove_25 : decode cJ3_fastRemove 25 = .ok (.iadd, 1) := dk_96 (dk_at dksJ3_fastRemove_1 1 rfl rfl)
theorem dJ3_fastRemove_26 : decode cJ3_fastRemove 26 = .ok (.aload_n 1, 1) := dk_43 (dk_at dksJ3_fastRemove_1 2 rfl rfl)
theorem dJ3_fastRemove_27 : decode cJ3_fastRemove 27 = .ok (.iload_n 2, 1) := dk_28 (dk_at dksJ3_fastRemove_1 3 rfl rfl)
theorem dJ3_fastRemove_28 : decode cJ3_fastRemove 28 = .ok (.iload_n 3, 1) := dk_29 (dk_at dksJ3_fastRemove_1 4 rfl rfl)
theorem dJ3_fastRemove_29 : decode cJ3_fastRemove 29 = .ok (.iload_n 2, 1) := dk_28 (dk_at dksJ3_fastRemove_1 5 rfl rfl)
theorem dJ3_fastRemove_30 : decode cJ3_fastRemove 30 = .ok (.isub, 1) := dk_100 (dk_at dksJ3_fastRemove_1 6 rfl rfl)
theorem dJ3_fastRemove_31 : decode cJ3_fastRemove 31 = .ok (.invokestatic 112, 3) := dk_184 0 112 (dk_at dksJ3_fastRemove_1 7 rfl rfl)
theorem dJ3_fastRemove_34 : decode cJ3_fastRemove 34 = .ok (.aload_n 1, 1) := dk_43 (dk_at dksJ3_fastRemove_1 10 rfl rfl)
theorem dJ3_fastRemove_35 : decode cJ3_fastRemove 35 = .ok (.aload_n 0, 1) := dk_42 (dk_at dksJ3_fastRemove_1 11 rfl rfl)
theorem dJ3_fastRemove_36 : decode cJ3_fastRemove 36 = .ok (.iload_n 3, 1) := dk_29 (dk_at dksJ3_fastRemove_1 12 rfl rfl)
theorem dJ3_fastRemove_37 : decode cJ3_fastRemove 37 = .ok (.dup_x1, 1) := dk_90 (dk_at dksJ3_fastRemove_1 13 rfl rfl)
theorem dJ3_fastRemove_38 : decode cJ3_fastRemove 38 = .ok (.putfield 48, 3) := dk_181 0 48 (dk_at dksJ3_fastRemove_1 14 rfl rfl)
theorem dJ3_fastRemove_41 : decode cJ3_fastRemove 41 = .ok (.aconst_null, 1) := dk_1 (dk_at dksJ3_fastRemove_1 17 rfl rfl)
theorem dJ3_fastRemove_42 : decode cJ3_fastRemove 42 = .ok (.aastore, 1) := dk_83 (dk_at dksJ3_fastRemove_1 18 rfl rfl)
theorem dJ3_fastRemove_43 : decode cJ3_fastRemove 43 = .ok (.return_, 1) := dk_177 (dk_at dksJ3_fastRemove_1 19 rfl rfl)
abbrev cJ3_add : ByteArray := prog_56_method_25_code
def yJ3_add : MethodName := ⟨RJ3, "add", "(Ljava/lang/Object;)Z"⟩
def dkwJ3_add_1 : List UInt8 := [172]
abbrev dktJ3_add_1 : List UInt8 := dkwJ3_add_1 ++ []
def dkwJ3_add_0 : List UInt8 := [42, 89, 180, 0, 63, 4, 96, 181, 0, 63, 42, 43, 42, 180, 0, 9, 42, 180, 0, 48, 182, 0, 131, 4]
abbrev dktJ3_add_0 : List UInt8 := dkwJ3_add_0 ++ dktJ3_add_1
theorem dksJ3_add_0 : cJ3_add.data.toList.drop 0 = dktJ3_add_0 := by decide +kernel
theorem dksJ3_add_1 : cJ3_add.data.toList.drop 24 = dktJ3_add_1 := dk_seg dksJ3_add_0 24 rfl rfl
theorem dJ3_add_0 : decode cJ3_add 0 = .ok (.aload_n 0, 1) := dk_42 (dk_at dksJ3_add_0 0 rfl rfl)
theorem dJ3_add_1 : decode cJ3_add 1 = .ok (.dup, 1) := dk_89 (dk_at dksJ3_add_0 1 rfl rfl)
theorem dJ3_add_2 : decode cJ3_add 2 = .ok (.getfield 63, 3) := dk_180 0 63 (dk_at dksJ3_add_0 2 rfl rfl)
theorem dJ3_add_5 : decode cJ3_add 5 = .ok (.iconst 1, 1) := dk_4 (dk_at dksJ3_add_0 5 rfl rfl)
theorem dJ3_add_6 : decode cJ3_add 6 = .ok (.iadd, 1) := dk_96 (dk_at dksJ3_add_0 6 rfl rfl)
theorem dJ3_add_7 : decode cJ3_add 7 = .ok (.putfield 63, 3) := dk_181 0 63 (dk_at dksJ3_add_0 7 rfl rfl)
theorem dJ3_add_10 : decode cJ3_add 10 = .ok (.aload_n 0, 1) := dk_42 (dk_at dksJ3_add_0 10 rfl rfl)
theorem dJ3_add_11 : decode cJ3_add 11 = .ok (.aload_n 1, 1) := dk_43 (dk_at dksJ3_add_0 11 rfl rfl)
theorem dJ3_add_12 : decode cJ3_add 12 = .ok (.aload_n 0, 1) := dk_42 (dk_at dksJ3_add_0 12 rfl rfl)
theorem dJ3_add_13 : decode cJ3_add 13 = .ok (.getfield 9, 3) := dk_180 0 9 (dk_at dksJ3_add_0 13 rfl rfl)
theorem dJ3_add_16 : decode cJ3_add 16 = .ok (.aload_n 0, 1) := dk_42 (dk_at dksJ3_add_0 16 rfl rfl)
theorem dJ3_add_17 : decode cJ3_add 17 = .ok (.getfield 48, 3) := dk_180 0 48 (dk_at dksJ3_add_0 17 rfl rfl)
theorem dJ3_add_20 : decode cJ3_add 20 = .ok (.invokevirtual 131, 3) := dk_182 0 131 (dk_at dksJ3_add_0 20 rfl rfl)
theorem dJ3_add_23 : decode cJ3_add 23 = .ok (.iconst 1, 1) := dk_4 (dk_at dksJ3_add_0 23 rfl rfl)
theorem dJ3_add_24 : decode cJ3_add 24 = .ok (.ireturn, 1) := dk_172 (dk_at dksJ3_add_1 0 rfl rfl)
abbrev cJ3_add_2 : ByteArray := prog_56_method_24_code
def yJ3_add_2 : MethodName := ⟨RJ3, "add", "(Ljava/lang/Object;[Ljava/lang/Object;I)V"⟩
def dkwJ3_add_2_0 : List UInt8 := [29, 44, 190, 160, 0, 8, 42, 182, 0, 129, 77, 44, 29, 43, 83, 42, 29, 4, 96, 181, 0, 48, 177]
abbrev dktJ3_add_2_0 : List UInt8 := dkwJ3_add_2_0 ++ []
theorem dksJ3_add_2_0 : cJ3_add_2.data.toList.drop 0 = dktJ3_add_2_0 := by decide +kernel
theorem dJ3_add_2_0 : decode cJ3_add_2 0 = .ok (.iload_n 3, 1) := dk_29 (dk_at dksJ3_add_2_0 0 rfl rfl)
theorem dJ3_add_2_1 : decode cJ3_add_2 1 = .ok (.aload_n 2, 1) := dk_44 (dk_at dksJ3_add_2_0 1 rfl rfl)
theorem dJ3_add_2_2 : decode cJ3_add_2 2 = .ok (.arraylength, 1) := dk_190 (dk_at dksJ3_add_2_0 2 rfl rfl)
theorem dJ3_add_2_3 : decode cJ3_add_2 3 = .ok (.if_icmp .ne 8, 3) := dk_160 0 8 (dk_at dksJ3_add_2_0 3 rfl rfl)
theorem dJ3_add_2_6 : decode cJ3_add_2 6 = .ok (.aload_n 0, 1) := dk_42 (dk_at dksJ3_add_2_0 6 rfl rfl)
theorem dJ3_add_2_7 : decode cJ3_add_2 7 = .ok (.invokevirtual 129, 3) := dk_182 0 129 (dk_at dksJ3_add_2_0 7 rfl rfl)
theorem dJ3_add_2_10 : decode cJ3_add_2 10 = .ok (.astore_n 2, 1) := dk_77 (dk_at dksJ3_add_2_0 10 rfl rfl)
theorem dJ3_add_2_11 : decode cJ3_add_2 11 = .ok (.aload_n 2, 1) := dk_44 (dk_at dksJ3_add_2_0 11 rfl rfl)
theorem dJ3_add_2_12 : decode cJ3_add_2 12 = .ok (.iload_n 3, 1) := dk_29 (dk_at dksJ3_add_2_0 12 rfl rfl)
theorem dJ3_add_2_13 : decode cJ3_add_2 13 = .ok (.aload_n 1, 1) := dk_43 (dk_at dksJ3_add_2_0 13 rfl rfl)
theorem dJ3_add_2_14 : decode cJ3_add_2 14 = .ok (.aastore, 1) := dk_83 (dk_at dksJ3_add_2_0 14 rfl rfl)
theorem dJ3_add_2_15 : decode cJ3_add_2 15 = .ok (.aload_n 0, 1) := dk_42 (dk_at dksJ3_add_2_0 15 rfl rfl)
theorem dJ3_add_2_16 : decode cJ3_add_2 16 = .ok (.iload_n 3, 1) := dk_29 (dk_at dksJ3_add_2_0 16 rfl rfl)
theorem dJ3_add_2_17 : decode cJ3_add_2 17 = .ok (.iconst 1, 1) := dk_4 (dk_at dksJ3_add_2_0 17 rfl rfl)
theorem dJ3_add_2_18 : decode cJ3_add_2 18 = .ok (.iadd, 1) := dk_96 (dk_at dksJ3_add_2_0 18 rfl rfl)
theorem dJ3_add_2_19 : decode cJ3_add_2 19 = .ok (.putfield 48, 3) := dk_181 0 48 (dk_at dksJ3_add_2_0 19 rfl rfl)
theorem dJ3_add_2_22 : decode cJ3_add_2 22 = .ok (.return_, 1) := dk_177 (dk_at dksJ3_add_2_0 22 rfl rfl)
abbrev cJ3_grow : ByteArray := prog_56_method_7_code
def yJ3_grow : MethodName := ⟨RJ3, "grow", "()[Ljava/lang/Object;"⟩
def dkwJ3_grow_0 : List UInt8 := [42, 42, 180, 0, 48, 4, 96, 182, 0, 69, 176]
abbrev dktJ3_grow_0 : List UInt8 := dkwJ3_grow_0 ++ []
theorem dksJ3_grow_0 : cJ3_grow.data.toList.drop 0 = dktJ3_grow_0 := by decide +kernel
theorem dJ3_grow_0 : decode cJ3_grow 0 = .ok (.aload_n 0, 1) := dk_42 (dk_at dksJ3_grow_0 0 rfl rfl)
theorem dJ3_grow_1 : decode cJ3_grow 1 = .ok (.aload_n 0, 1) := dk_42 (dk_at dksJ3_grow_0 1 rfl rfl)
theorem dJ3_grow_2 : decode cJ3_grow 2 = .ok (.getfield 48, 3) := dk_180 0 48 (dk_at dksJ3_grow_0 2 rfl rfl)
theorem dJ3_grow_5 : decode cJ3_grow 5 = .ok (.iconst 1, 1) := dk_4 (dk_at dksJ3_grow_0 5 rfl rfl)
theorem dJ3_grow_6 : decode cJ3_grow 6 = .ok (.iadd, 1) := dk_96 (dk_at dksJ3_grow_0 6 rfl rfl)
theorem dJ3_grow_7 : decode cJ3_grow 7 = .ok (.invokevirtual 69, 3) := dk_182 0 69 (dk_at dksJ3_grow_0 7 rfl rfl)
theorem dJ3_grow_10 : decode cJ3_grow 10 = .ok (.areturn, 1) := dk_176 (dk_at dksJ3_grow_0 10 rfl rfl)
abbrev cJ3_grow_2 : ByteArray := prog_56_method_6_code
def yJ3_grow_2 : MethodName := ⟨RJ3, "grow", "(I)[Ljava/lang/Object;"⟩
def dkwJ3_grow_2_2 : List UInt8 := [27, 184, 0, 79, 189, 0, 7, 90, 181, 0, 9, 176]
abbrev dktJ3_grow_2_2 : List UInt8 := dkwJ3_grow_2_2 ++ []
def dkwJ3_grow_2_1 : List UInt8 := [28, 4, 122, 184, 0, 73, 62, 42, 42, 180, 0, 9, 29, 184, 0, 66, 90, 181, 0, 9, 176, 42, 16, 10]
abbrev dktJ3_grow_2_1 : List UInt8 := dkwJ3_grow_2_1 ++ dktJ3_grow_2_2
def dkwJ3_grow_2_0 : List UInt8 := [42, 180, 0, 9, 190, 61, 28, 157, 0, 13, 42, 180, 0, 9, 178, 0, 39, 165, 0, 28, 28, 27, 28, 100]
abbrev dktJ3_grow_2_0 : List UInt8 := dkwJ3_grow_2_0 ++ dktJ3_grow_2_1
theorem dksJ3_grow_2_0 : cJ3_grow_2.data.toList.drop 0 = dktJ3_grow_2_0 := by decide +kernel
theorem dksJ3_grow_2_1 : cJ3_grow_2.data.toList.drop 24 = dktJ3_grow_2_1 := dk_seg dksJ3_grow_2_0 24 rfl rfl
theorem dksJ3_grow_2_2 : cJ3_grow_2.data.toList.drop 48 = dktJ3_grow_2_2 := dk_seg dksJ3_grow_2_1 24 rfl rfl
theorem dJ3_grow_2_0 : decode cJ3_grow_2 0 = .ok (.aload_n 0, 1) := dk_42 (dk_at dksJ3_grow_2_0 0 rfl rfl)
theorem dJ3_grow_2_1 : decode cJ3_grow_2 1 = .ok (.getfield 9, 3) := dk_180 0 9 (dk_at dksJ3_grow_2_0 1 rfl rfl)
theorem dJ3_grow_2_4 : decode cJ3_grow_2 4 = .ok (.arraylength, 1) := dk_190 (dk_at dksJ3_grow_2_0 4 rfl rfl)
theorem dJ3_grow_2_5 : decode cJ3_grow_2 5 = .ok (.istore_n 2, 1) := dk_61 (dk_at dksJ3_grow_2_0 5 rfl rfl)
theorem dJ3_grow_2_6 : decode cJ3_grow_2 6 = .ok (.iload_n 2, 1) := dk_28 (dk_at dksJ3_grow_2_0 6 rfl rfl)
theorem dJ3_grow_2_7 : decode cJ3_grow_2 7 = .ok (.ifCond .gt 13, 3) := dk_157 0 13 (dk_at dksJ3_grow_2_0 7 rfl rfl)
theorem dJ3_grow_2_10 : decode cJ3_grow_2 10 = .ok (.aload_n 0, 1) := dk_42 (dk_at dksJ3_grow_2_0 10 rfl rfl)
theorem dJ3_grow_2_11 : decode cJ3_grow_2 11 = .ok (.getfield 9, 3) := dk_180 0 9 (dk_at dksJ3_grow_2_0 11 rfl rfl)
theorem dJ3_grow_2_14 : decode cJ3_grow_2 14 = .ok (.getstatic 39, 3) := dk_178 0 39 (dk_at dksJ3_grow_2_0 14 rfl rfl)
theorem dJ3_grow_2_17 : decode cJ3_grow_2 17 = .ok (.if_acmp .eq 28, 3) := dk_165 0 28 (dk_at dksJ3_grow_2_0 17 rfl rfl)
theorem dJ3_grow_2_20 : decode cJ3_grow_2 20 = .ok (.iload_n 2, 1) := dk_28 (dk_at dksJ3_grow_2_0 20 rfl rfl)
theorem dJ3_grow_2_21 : decode cJ3_grow_2 21 = .ok (.iload_n 1, 1) := dk_27 (dk_at dksJ3_grow_2_0 21 rfl rfl)
theorem dJ3_grow_2_22 : decode cJ3_grow_2 22 = .ok (.iload_n 2, 1) := dk_28 (dk_at dksJ3_grow_2_0 22 rfl rfl)
theorem dJ3_grow_2_23 : decode cJ3_grow_2 23 = .ok (.isub, 1) := dk_100 (dk_at dksJ3_grow_2_0 23 rfl rfl)
theorem dJ3_grow_2_24 : decode cJ3_grow_2 24 = .ok (.iload_n 2, 1) := dk_28 (dk_at dksJ3_grow_2_1 0 rfl rfl)
theorem dJ3_grow_2_25 : decode cJ3_grow_2 25 = .ok (.iconst 1, 1) := dk_4 (dk_at dksJ3_grow_2_1 1 rfl rfl)
theorem dJ3_grow_2_26 : decode cJ3_grow_2 26 = .ok (.ishr, 1) := dk_122 (dk_at dksJ3_grow_2_1 2 rfl rfl)
theorem dJ3_grow_2_27 : decode cJ3_grow_2 27 = .ok (.invokestatic 73, 3) := dk_184 0 73 (dk_at dksJ3_grow_2_1 3 rfl rfl)
theorem dJ3_grow_2_30 : decode cJ3_grow_2 30 = .ok (.istore_n 3, 1) := dk_62 (dk_at dksJ3_grow_2_1 6 rfl rfl)
theorem dJ3_grow_2_31 : decode cJ3_grow_2 31 = .ok (.aload_n 0, 1) := dk_42 (dk_at dksJ3_grow_2_1 7 rfl rfl)
theorem dJ3_grow_2_32 : decode cJ3_grow_2 32 = .ok (.aload_n 0, 1) := dk_42 (dk_at dksJ3_grow_2_1 8 rfl rfl)
theorem dJ3_grow_2_33 : decode cJ3_grow_2 33 = .ok (.getfield 9, 3) := dk_180 0 9 (dk_at dksJ3_grow_2_1 9 rfl rfl)
theorem dJ3_grow_2_36 : decode cJ3_grow_2 36 = .ok (.iload_n 3, 1) := dk_29 (dk_at dksJ3_grow_2_1 12 rfl rfl)
theorem dJ3_grow_2_37 : decode cJ3_grow_2 37 = .ok (.invokestatic 66, 3) := dk_184 0 66 (dk_at dksJ3_grow_2_1 13 rfl rfl)
theorem dJ3_grow_2_40 : decode cJ3_grow_2 40 = .ok (.dup_x1, 1) := dk_90 (dk_at dksJ3_grow_2_1 16 rfl rfl)
theorem dJ3_grow_2_41 : decode cJ3_grow_2 41 = .ok (.putfield 9, 3) := dk_181 0 9 (dk_at dksJ3_grow_2_1 17 rfl rfl)
theorem dJ3_grow_2_44 : decode cJ3_grow_2 44 = .ok (.areturn, 1) := dk_176 (dk_at dksJ3_grow_2_1 20 rfl rfl)
theorem dJ3_grow_2_45 : decode cJ3_grow_2 45 = .ok (.aload_n 0, 1) := dk_42 (dk_at dksJ3_grow_2_1 21 rfl rfl)
theorem dJ3_grow_2_46 : decode cJ3_grow_2 46 = .ok (.bipush 10, 2) := dk_16 10 (dk_at dksJ3_grow_2_1 22 rfl rfl)
theorem dJ3_grow_2_48 : decode cJ3_grow_2 48 = .ok (.iload_n 1, 1) := dk_27 (dk_at dksJ3_grow_2_2 0 rfl rfl)
theorem dJ3_grow_2_49 : decode cJ3_grow_2 49 = .ok (.invokestatic 79, 3) := dk_184 0 79 (dk_at dksJ3_grow_2_2 1 rfl rfl)
theorem dJ3_grow_2_52 : decode cJ3_grow_2 52 = .ok (.anewarray 7, 3) := dk_189 0 7 (dk_at dksJ3_grow_2_2 4 rfl rfl)
theorem dJ3_grow_2_55 : decode cJ3_grow_2 55 = .ok (.dup_x1, 1) := dk_90 (dk_at dksJ3_grow_2_2 7 rfl rfl)
theorem dJ3_grow_2_56 : decode cJ3_grow_2 56 = .ok (.putfield 9, 3) := dk_181 0 9 (dk_at dksJ3_grow_2_2 8 rfl rfl)
theorem dJ3_grow_2_59 : decode cJ3_grow_2 59 = .ok (.areturn, 1) := dk_176 (dk_at dksJ3_grow_2_2 11 rfl rfl)
abbrev cJ3_init_2 : ByteArray := prog_56_method_2_code
def yJ3_init_2 : MethodName := ⟨RJ3, "<init>", "()V"⟩
def dkwJ3_init_2_0 : List UInt8 := [42, 183, 0, 1, 42, 178, 0, 39, 181, 0, 9, 177]
abbrev dktJ3_init_2_0 : List UInt8 := dkwJ3_init_2_0 ++ []
theorem dksJ3_init_2_0 : cJ3_init_2.data.toList.drop 0 = dktJ3_init_2_0 := by decide +kernel
theorem dJ3_init_2_0 : decode cJ3_init_2 0 = .ok (.aload_n 0, 1) := dk_42 (dk_at dksJ3_init_2_0 0 rfl rfl)
theorem dJ3_init_2_1 : decode cJ3_init_2 1 = .ok (.invokespecial 1, 3) := dk_183 0 1 (dk_at dksJ3_init_2_0 1 rfl rfl)
theorem dJ3_init_2_4 : decode cJ3_init_2 4 = .ok (.aload_n 0, 1) := dk_42 (dk_at dksJ3_init_2_0 4 rfl rfl)
theorem dJ3_init_2_5 : decode cJ3_init_2 5 = .ok (.getstatic 39, 3) := dk_178 0 39 (dk_at dksJ3_init_2_0 5 rfl rfl)
theorem dJ3_init_2_8 : decode cJ3_init_2 8 = .ok (.putfield 9, 3) := dk_181 0 9 (dk_at dksJ3_init_2_0 8 rfl rfl)
theorem dJ3_init_2_11 : decode cJ3_init_2 11 = .ok (.return_, 1) := dk_177 (dk_at dksJ3_init_2_0 11 rfl rfl)
abbrev cJ3_isEmpty : ByteArray := prog_56_method_9_code
def yJ3_isEmpty : MethodName := ⟨RJ3, "isEmpty", "()Z"⟩
def dkwJ3_isEmpty_0 : List UInt8 := [42, 180, 0, 48, 154, 0, 7, 4, 167, 0, 4, 3, 172]
abbrev dktJ3_isEmpty_0 : List UInt8 := dkwJ3_isEmpty_0 ++ []
theorem dksJ3_isEmpty_0 : cJ3_isEmpty.data.toList.drop 0 = dktJ3_isEmpty_0 := by decide +kernel
theorem dJ3_isEmpty_0 : decode cJ3_isEmpty 0 = .ok (.aload_n 0, 1) := dk_42 (dk_at dksJ3_isEmpty_0 0 rfl rfl)
theorem dJ3_isEmpty_1 : decode cJ3_isEmpty 1 = .ok (.getfield 48, 3) := dk_180 0 48 (dk_at dksJ3_isEmpty_0 1 rfl rfl)
theorem dJ3_isEmpty_4 : decode cJ3_isEmpty 4 = .ok (.ifCond .ne 7, 3) := dk_154 0 7 (dk_at dksJ3_isEmpty_0 4 rfl rfl)
theorem dJ3_isEmpty_7 : decode cJ3_isEmpty 7 = .ok (.iconst 1, 1) := dk_4 (dk_at dksJ3_isEmpty_0 7 rfl rfl)
theorem dJ3_isEmpty_8 : decode cJ3_isEmpty 8 = .ok (.goto 4, 3) := dk_167 0 4 (dk_at dksJ3_isEmpty_0 8 rfl rfl)
theorem dJ3_isEmpty_11 : decode cJ3_isEmpty 11 = .ok (.iconst 0, 1) := dk_3 (dk_at dksJ3_isEmpty_0 11 rfl rfl)
theorem dJ3_isEmpty_12 : decode cJ3_isEmpty 12 = .ok (.ireturn, 1) := dk_172 (dk_at dksJ3_isEmpty_0 12 rfl rfl)
abbrev cJ3_set : ByteArray := prog_56_method_23_code
def yJ3_set : MethodName := ⟨RJ3, "set", "(ILjava/lang/Object;)Ljava/lang/Object;"⟩
def dkwJ3_set_0 : List UInt8 := [27, 42, 180, 0, 48, 184, 0, 118, 87, 42, 27, 182, 0, 123, 78, 42, 180, 0, 9, 27, 44, 83, 45, 176]
abbrev dktJ3_set_0 : List UInt8 := dkwJ3_set_0 ++ []
theorem dksJ3_set_0 : cJ3_set.data.toList.drop 0 = dktJ3_set_0 := by decide +kernel
theorem dJ3_set_0 : decode cJ3_set 0 = .ok (.iload_n 1, 1) := dk_27 (dk_at dksJ3_set_0 0 rfl rfl)
theorem dJ3_set_1 : decode cJ3_set 1 = .ok (.aload_n 0, 1) := dk_42 (dk_at dksJ3_set_0 1 rfl rfl)
theorem dJ3_set_2 : decode cJ3_set 2 = .ok (.getfield 48, 3) := dk_180 0 48 (dk_at dksJ3_set_0 2 rfl rfl)
theorem dJ3_set_5 : decode cJ3_set 5 = .ok (.invokestatic 118, 3) := dk_184 0 118 (dk_at dksJ3_set_0 5 rfl rfl)
theorem dJ3_set_8 : decode cJ3_set 8 = .ok (.pop, 1) := dk_87 (dk_at dksJ3_set_0 8 rfl rfl)
theorem dJ3_set_9 : decode cJ3_set 9 = .ok (.aload_n 0, 1) := dk_42 (dk_at dksJ3_set_0 9 rfl rfl)
theorem dJ3_set_10 : decode cJ3_set 10 = .ok (.iload_n 1, 1) := dk_27 (dk_at dksJ3_set_0 10 rfl rfl)
theorem dJ3_set_11 : decode cJ3_set 11 = .ok (.invokevirtual 123, 3) := dk_182 0 123 (dk_at dksJ3_set_0 11 rfl rfl)
theorem dJ3_set_14 : decode cJ3_set 14 = .ok (.astore_n 3, 1) := dk_78 (dk_at dksJ3_set_0 14 rfl rfl)
theorem dJ3_set_15 : decode cJ3_set 15 = .ok (.aload_n 0, 1) := dk_42 (dk_at dksJ3_set_0 15 rfl rfl)
theorem dJ3_set_16 : decode cJ3_set 16 = .ok (.getfield 9, 3) := dk_180 0 9 (dk_at dksJ3_set_0 16 rfl rfl)
theorem dJ3_set_19 : decode cJ3_set 19 = .ok (.iload_n 1, 1) := dk_27 (dk_at dksJ3_set_0 19 rfl rfl)
theorem dJ3_set_20 : decode cJ3_set 20 = .ok (.aload_n 2, 1) := dk_44 (dk_at dksJ3_set_0 20 rfl rfl)
theorem dJ3_set_21 : decode cJ3_set 21 = .ok (.aastore, 1) := dk_83 (dk_at dksJ3_set_0 21 rfl rfl)
theorem dJ3_set_22 : decode cJ3_set 22 = .ok (.aload_n 3, 1) := dk_45 (dk_at dksJ3_set_0 22 rfl rfl)
theorem dJ3_set_23 : decode cJ3_set 23 = .ok (.areturn, 1) := dk_176 (dk_at dksJ3_set_0 23 rfl rfl)
abbrev cJ3_listIterator_2 : ByteArray := prog_56_method_54_code
def yJ3_listIterator_2 : MethodName := ⟨RJ3, "listIterator", "()Ljava/util/ListIterator;"⟩
def dkwJ3_listIterator_2_0 : List UInt8 := [187, 1, 6, 89, 42, 3, 183, 1, 8, 176]
abbrev dktJ3_listIterator_2_0 : List UInt8 := dkwJ3_listIterator_2_0 ++ []
theorem dksJ3_listIterator_2_0 : cJ3_listIterator_2.data.toList.drop 0 = dktJ3_listIterator_2_0 := by decide +kernel
theorem dJ3_listIterator_2_0 : decode cJ3_listIterator_2 0 = .ok (.new 262, 3) := dk_187 1 6 (dk_at dksJ3_listIterator_2_0 0 rfl rfl)
theorem dJ3_listIterator_2_3 : decode cJ3_listIterator_2 3 = .ok (.dup, 1) := dk_89 (dk_at dksJ3_listIterator_2_0 3 rfl rfl)
theorem dJ3_listIterator_2_4 : decode cJ3_listIterator_2 4 = .ok (.aload_n 0, 1) := dk_42 (dk_at dksJ3_listIterator_2_0 4 rfl rfl)
theorem dJ3_listIterator_2_5 : decode cJ3_listIterator_2 5 = .ok (.iconst 0, 1) := dk_3 (dk_at dksJ3_listIterator_2_0 5 rfl rfl)
theorem dJ3_listIterator_2_6 : decode cJ3_listIterator_2 6 = .ok (.invokespecial 264, 3) := dk_183 1 8 (dk_at dksJ3_listIterator_2_0 6 rfl rfl)
theorem dJ3_listIterator_2_9 : decode cJ3_listIterator_2 9 = .ok (.areturn, 1) := dk_176 (dk_at dksJ3_listIterator_2_0 9 rfl rfl)
theorem q52 : (Jvm.Cond.initialized "java/util/ArrayList") ∈ lw_all := lw_g (lw_at lw_m1 5 rfl) rfl
theorem q142 : (Jvm.Cond.instantiable "java/util/ArrayList" (3 : Nat)) ∈ lw_all := lw_g (lw_at lw_m1 95 rfl) rfl
theorem q144 : (Jvm.Cond.instanceMethod ({ cls := "java/util/ArrayList", name := "<init>", desc := "(I)V" } : Jvm.MethodName)) ∈ lw_all := lw_g (lw_at lw_m1 97 rfl) rfl
theorem q145 : (Jvm.Cond.code ({ cls := "java/util/ArrayList", name := "<init>", desc := "(I)V" } : Jvm.MethodName) prog_56_method_1_code (2 : Nat) (Option.none : Option Jvm.ClassFile.FieldType)) ∈ lw_all := lw_g (lw_at lw_m1 98 rfl) rfl
theorem q146 : (Jvm.Cond.methodLink "java/util/ArrayList" (1 : Nat) ({ cls := "java/util/AbstractList", name := "<init>", desc := "()V" } : Jvm.MethodName)) ∈ lw_all := lw_g (lw_at lw_m1 99 rfl) rfl
theorem q153 : (Jvm.Cond.classLink "java/util/ArrayList" (7 : Nat) "java/lang/Object") ∈ lw_all := lw_g (lw_at lw_m1 106 rfl) rfl
theorem q155 : (Jvm.Cond.fieldLink "java/util/ArrayList" (15 : Nat) "java/util/ArrayList" "EMPTY_ELEMENTDATA" "[Ljava/lang/Object;") ∈ lw_all := lw_g (lw_at lw_m1 108 rfl) rfl
theorem q156 : (Jvm.Cond.laysStatic "java/util/ArrayList" "EMPTY_ELEMENTDATA" "[Ljava/lang/Object;") ∈ lw_tbl := lw_at lw_m1 109 rfl
theorem q157 : (Jvm.Cond.classLink "java/util/ArrayList" (18 : Nat) "java/lang/IllegalArgumentException") ∈ lw_all := lw_g (lw_at lw_m1 110 rfl) rfl
theorem q203 : (Jvm.Cond.classLink "java/util/ArrayList" (20 : Nat) "java/lang/StringBuilder") ∈ lw_all := lw_g (lw_at lw_m1 156 rfl) rfl
theorem q205 : (Jvm.Cond.methodLink "java/util/ArrayList" (22 : Nat) ({ cls := "java/lang/StringBuilder", name := "<init>", desc := "()V" } : Jvm.MethodName)) ∈ lw_all := lw_g (lw_at lw_m1 158 rfl) rfl
theorem q235 : (Jvm.Cond.stringRef "java/util/ArrayList" (23 : Nat) "Illegal Capacity: ") ∈ lw_tbl := lw_at lw_m1 188 rfl
theorem q236 : (Jvm.Cond.methodLink "java/util/ArrayList" (25 : Nat) ({ cls := "java/lang/StringBuilder", name := "append", desc := "(Ljava/lang/String;)Ljava/lang/StringBuilder;" } : Jvm.MethodName)) ∈ lw_all := lw_g (lw_at lw_m1 189 rfl) rfl
theorem q356 : (Jvm.Cond.methodLink "java/util/ArrayList" (29 : Nat) ({ cls := "java/lang/StringBuilder", name := "append", desc := "(I)Ljava/lang/StringBuilder;" } : Jvm.MethodName)) ∈ lw_all := lw_g (lw_at lw_m2 69 rfl) rfl
theorem q381 : (Jvm.Cond.methodLink "java/util/ArrayList" (32 : Nat) ({ cls := "java/lang/StringBuilder", name := "toString", desc := "()Ljava/lang/String;" } : Jvm.MethodName)) ∈ lw_all := lw_g (lw_at lw_m2 94 rfl) rfl
theorem q473 : (Jvm.Cond.methodLink "java/util/ArrayList" (36 : Nat) ({ cls := "java/lang/IllegalArgumentException", name := "<init>", desc := "(Ljava/lang/String;)V" } : Jvm.MethodName)) ∈ lw_all := lw_g (lw_at lw_m2 186 rfl) rfl
theorem q474 : (Jvm.Cond.fieldLink "java/util/ArrayList" (9 : Nat) "java/util/ArrayList" "elementData" "[Ljava/lang/Object;") ∈ lw_all := lw_g (lw_at lw_m2 187 rfl) rfl
theorem q478 : (Jvm.Cond.fieldLink "java/util/ArrayList" (48 : Nat) "java/util/ArrayList" "size" "I") ∈ lw_all := lw_g (lw_at lw_m2 191 rfl) rfl
theorem q483 : (Jvm.Cond.sameField "java/util/ArrayList" "java/util/AbstractList" "modCount" "I") ∈ lw_all := lw_g (lw_at lw_m2 196 rfl) rfl
theorem q487 : (Jvm.Cond.fieldLink "java/util/ArrayList" (63 : Nat) "java/util/ArrayList" "modCount" "I") ∈ lw_all := lw_g (lw_at lw_m2 200 rfl) rfl
theorem q488 : (Jvm.Cond.lays "java/util/ArrayList" "java/util/ArrayList" "elementData" "[Ljava/lang/Object;") ∈ lw_all := lw_g (lw_at lw_m2 201 rfl) rfl
theorem q489 : (Jvm.Cond.soleField "java/util/ArrayList" "elementData") ∈ lw_all := lw_g (lw_at lw_m2 202 rfl) rfl
theorem q490 : (Jvm.Cond.lays "java/util/ArrayList" "java/util/ArrayList" "size" "I") ∈ lw_all := lw_g (lw_at lw_m2 203 rfl) rfl
theorem q491 : (Jvm.Cond.soleField "java/util/ArrayList" "size") ∈ lw_all := lw_g (lw_at lw_m2 204 rfl) rfl
theorem q492 : (Jvm.Cond.lays "java/util/ArrayList" "java/util/AbstractList" "modCount" "I") ∈ lw_all := lw_g (lw_at lw_m2 205 rfl) rfl
theorem q494 : (Jvm.Cond.superclass "java/util/ArrayList" "java/util/AbstractList") ∈ lw_all := lw_g (lw_at lw_m2 207 rfl) rfl
theorem q678 : (Jvm.Cond.selects "java/util/ArrayList" ({ cls := "java/util/AbstractList", name := "size", desc := "()I" } : Jvm.MethodName) ({ cls := "java/util/ArrayList", name := "size", desc := "()I" } : Jvm.MethodName)) ∈ lw_all := lw_g (lw_at lw_m3 151 rfl) rfl
theorem q679 : (Jvm.Cond.instanceMethod ({ cls := "java/util/ArrayList", name := "size", desc := "()I" } : Jvm.MethodName)) ∈ lw_all := lw_g (lw_at lw_m3 152 rfl) rfl
theorem q680 : (Jvm.Cond.code ({ cls := "java/util/ArrayList", name := "size", desc := "()I" } : Jvm.MethodName) prog_56_method_8_code (1 : Nat) (Option.some Jvm.ClassFile.FieldType.int)) ∈ lw_all := lw_g (lw_at lw_m3 153 rfl) rfl
theorem q731 : (Jvm.Cond.selects "java/util/ArrayList" ({ cls := "java/util/AbstractList", name := "get", desc := "(I)Ljava/lang/Object;" } : Jvm.MethodName) ({ cls := "java/util/ArrayList", name := "get", desc := "(I)Ljava/lang/Object;" } : Jvm.MethodName)) ∈ lw_all := lw_g (lw_at lw_m3 204 rfl) rfl
theorem q732 : (Jvm.Cond.instanceMethod ({ cls := "java/util/ArrayList", name := "get", desc := "(I)Ljava/lang/Object;" } : Jvm.MethodName)) ∈ lw_all := lw_g (lw_at lw_m3 205 rfl) rfl
theorem q733 : (Jvm.Cond.code ({ cls := "java/util/ArrayList", name := "get", desc := "(I)Ljava/lang/Object;" } : Jvm.MethodName) prog_56_method_20_code (2 : Nat) (Option.some (Jvm.ClassFile.FieldType.object "java/lang/Object"))) ∈ lw_all := lw_g (lw_at lw_m3 206 rfl) rfl
theorem q734 : (Jvm.Cond.methodLink "java/util/ArrayList" (118 : Nat) ({ cls := "java/util/Objects", name := "checkIndex", desc := "(II)I" } : Jvm.MethodName)) ∈ lw_all := lw_g (lw_at lw_m3 207 rfl) rfl
theorem q740 : (Jvm.Cond.methodLink "java/util/ArrayList" (123 : Nat) ({ cls := "java/util/ArrayList", name := "elementData", desc := "(I)Ljava/lang/Object;" } : Jvm.MethodName)) ∈ lw_all := lw_g (lw_at lw_m3 213 rfl) rfl
theorem q741 : (Jvm.Cond.instanceMethod ({ cls := "java/util/ArrayList", name := "elementData", desc := "(I)Ljava/lang/Object;" } : Jvm.MethodName)) ∈ lw_all := lw_g (lw_at lw_m3 214 rfl) rfl
theorem q742 : (Jvm.Cond.selects "java/util/ArrayList" ({ cls := "java/util/ArrayList", name := "elementData", desc := "(I)Ljava/lang/Object;" } : Jvm.MethodName) ({ cls := "java/util/ArrayList", name := "elementData", desc := "(I)Ljava/lang/Object;" } : Jvm.MethodName)) ∈ lw_all := lw_g (lw_at lw_m3 215 rfl) rfl
theorem q743 : (Jvm.Cond.code ({ cls := "java/util/ArrayList", name := "elementData", desc := "(I)Ljava/lang/Object;" } : Jvm.MethodName) prog_56_method_18_code (2 : Nat) (Option.some (Jvm.ClassFile.FieldType.object "java/lang/Object"))) ∈ lw_all := lw_g (lw_at lw_m3 216 rfl) rfl
theorem q848 : (Jvm.Cond.selects "java/util/ArrayList" ({ cls := "java/lang/Object", name := "getClass", desc := "()Ljava/lang/Class;" } : Jvm.MethodName) ({ cls := "java/lang/Object", name := "getClass", desc := "()Ljava/lang/Class;" } : Jvm.MethodName)) ∈ lw_all := lw_g (lw_at lw_m4 81 rfl) rfl
theorem q937 : (Jvm.Cond.castable "java/util/ArrayList" "java/util/List") ∈ lw_tbl := lw_at lw_m4 170 rfl
theorem q938 : (Jvm.Cond.selects "java/util/ArrayList" ({ cls := "java/util/List", name := "get", desc := "(I)Ljava/lang/Object;" } : Jvm.MethodName) ({ cls := "java/util/ArrayList", name := "get", desc := "(I)Ljava/lang/Object;" } : Jvm.MethodName)) ∈ lw_all := lw_g (lw_at lw_m4 171 rfl) rfl
theorem q939 : (Jvm.Cond.unhidden "java/util/ArrayList" "get" "(I)Ljava/lang/Object;") ∈ lw_tbl := lw_at lw_m4 172 rfl
theorem q940 : (Jvm.Cond.publicMethod ({ cls := "java/util/ArrayList", name := "get", desc := "(I)Ljava/lang/Object;" } : Jvm.MethodName)) ∈ lw_tbl := lw_at lw_m4 173 rfl
theorem q1074 : (Jvm.Cond.instanceMethod ({ cls := "java/util/ArrayList", name := "iterator", desc := "()Ljava/util/Iterator;" } : Jvm.MethodName)) ∈ lw_all := lw_g (lw_at lw_m5 67 rfl) rfl
theorem q1075 : (Jvm.Cond.selects "java/util/ArrayList" ({ cls := "java/util/ArrayList", name := "iterator", desc := "()Ljava/util/Iterator;" } : Jvm.MethodName) ({ cls := "java/util/ArrayList", name := "iterator", desc := "()Ljava/util/Iterator;" } : Jvm.MethodName)) ∈ lw_all := lw_g (lw_at lw_m5 68 rfl) rfl
theorem q1076 : (Jvm.Cond.code ({ cls := "java/util/ArrayList", name := "iterator", desc := "()Ljava/util/Iterator;" } : Jvm.MethodName) prog_56_method_55_code (1 : Nat) (Option.some (Jvm.ClassFile.FieldType.object "java/util/Iterator"))) ∈ lw_all := lw_g (lw_at lw_m5 69 rfl) rfl
theorem q1077 : (Jvm.Cond.classLink "java/util/ArrayList" (267 : Nat) "java/util/ArrayList$Itr") ∈ lw_all := lw_g (lw_at lw_m5 70 rfl) rfl
theorem q1079 : (Jvm.Cond.methodLink "java/util/ArrayList" (269 : Nat) ({ cls := "java/util/ArrayList$Itr", name := "<init>", desc := "(Ljava/util/ArrayList;)V" } : Jvm.MethodName)) ∈ lw_all := lw_g (lw_at lw_m5 72 rfl) rfl
theorem q1383 : (Jvm.Cond.selects "java/util/ArrayList" ({ cls := "java/util/AbstractList", name := "listIterator", desc := "(I)Ljava/util/ListIterator;" } : Jvm.MethodName) ({ cls := "java/util/ArrayList", name := "listIterator", desc := "(I)Ljava/util/ListIterator;" } : Jvm.MethodName)) ∈ lw_all := lw_g (lw_at lw_m6 136 rfl) rfl
theorem q1384 : (Jvm.Cond.instanceMethod ({ cls := "java/util/ArrayList", name := "listIterator", desc := "(I)Ljava/util/ListIterator;" } : Jvm.MethodName)) ∈ lw_all := lw_g (lw_at lw_m6 137 rfl) rfl
theorem q1385 : (Jvm.Cond.code ({ cls := "java/util/ArrayList", name := "listIterator", desc := "(I)Ljava/util/ListIterator;" } : Jvm.MethodName) prog_56_method_53_code (2 : Nat) (Option.some (Jvm.ClassFile.FieldType.object "java/util/ListIterator"))) ∈ lw_all := lw_g (lw_at lw_m6 138 rfl) rfl
theorem q1386 : (Jvm.Cond.methodLink "java/util/ArrayList" (135 : Nat) ({ cls := "java/util/ArrayList", name := "rangeCheckForAdd", desc := "(I)V" } : Jvm.MethodName)) ∈ lw_all := lw_g (lw_at lw_m6 139 rfl) rfl
theorem q1387 : (Jvm.Cond.privateMethod ({ cls := "java/util/ArrayList", name := "rangeCheckForAdd", desc := "(I)V" } : Jvm.MethodName)) ∈ lw_tbl := lw_at lw_m6 140 rfl
theorem q1388 : (Jvm.Cond.instanceMethod ({ cls := "java/util/ArrayList", name := "rangeCheckForAdd", desc := "(I)V" } : Jvm.MethodName)) ∈ lw_all := lw_g (lw_at lw_m6 141 rfl) rfl
theorem q1389 : (Jvm.Cond.code ({ cls := "java/util/ArrayList", name := "rangeCheckForAdd", desc := "(I)V" } : Jvm.MethodName) prog_56_method_45_code (2 : Nat) (Option.none : Option Jvm.ClassFile.FieldType)) ∈ lw_all := lw_g (lw_at lw_m6 142 rfl) rfl
theorem q1390 : (Jvm.Cond.classLink "java/util/ArrayList" (187 : Nat) "java/lang/IndexOutOfBoundsException") ∈ lw_all := lw_g (lw_at lw_m6 143 rfl) rfl
theorem q1391 : (Jvm.Cond.methodLink "java/util/ArrayList" (198 : Nat) ({ cls := "java/util/ArrayList", name := "outOfBoundsMsg", desc := "(I)Ljava/lang/String;" } : Jvm.MethodName)) ∈ lw_all := lw_g (lw_at lw_m6 144 rfl) rfl
theorem q1392 : (Jvm.Cond.privateMethod ({ cls := "java/util/ArrayList", name := "outOfBoundsMsg", desc := "(I)Ljava/lang/String;" } : Jvm.MethodName)) ∈ lw_tbl := lw_at lw_m6 145 rfl
theorem q1393 : (Jvm.Cond.instanceMethod ({ cls := "java/util/ArrayList", name := "outOfBoundsMsg", desc := "(I)Ljava/lang/String;" } : Jvm.MethodName)) ∈ lw_all := lw_g (lw_at lw_m6 146 rfl) rfl
theorem q1394 : (Jvm.Cond.code ({ cls := "java/util/ArrayList", name := "outOfBoundsMsg", desc := "(I)Ljava/lang/String;" } : Jvm.MethodName) prog_56_method_46_code (2 : Nat) (Option.some (Jvm.ClassFile.FieldType.object "java/lang/String"))) ∈ lw_all := lw_g (lw_at lw_m6 147 rfl) rfl
theorem q1395 : (Jvm.Cond.stringRef "java/util/ArrayList" (201 : Nat) "Index: ") ∈ lw_tbl := lw_at lw_m6 148 rfl
theorem q1396 : (Jvm.Cond.stringRef "java/util/ArrayList" (203 : Nat) ", Size: ") ∈ lw_tbl := lw_at lw_m6 149 rfl
theorem q1397 : (Jvm.Cond.methodLink "java/util/ArrayList" (193 : Nat) ({ cls := "java/lang/IndexOutOfBoundsException", name := "<init>", desc := "(Ljava/lang/String;)V" } : Jvm.MethodName)) ∈ lw_all := lw_g (lw_at lw_m6 150 rfl) rfl
theorem q1398 : (Jvm.Cond.classLink "java/util/ArrayList" (262 : Nat) "java/util/ArrayList$ListItr") ∈ lw_all := lw_g (lw_at lw_m6 151 rfl) rfl
theorem q1400 : (Jvm.Cond.methodLink "java/util/ArrayList" (264 : Nat) ({ cls := "java/util/ArrayList$ListItr", name := "<init>", desc := "(Ljava/util/ArrayList;I)V" } : Jvm.MethodName)) ∈ lw_all := lw_g (lw_at lw_m6 153 rfl) rfl
theorem q1473 : (Jvm.Cond.selects "java/util/ArrayList" ({ cls := "java/util/AbstractList", name := "remove", desc := "(I)Ljava/lang/Object;" } : Jvm.MethodName) ({ cls := "java/util/ArrayList", name := "remove", desc := "(I)Ljava/lang/Object;" } : Jvm.MethodName)) ∈ lw_all := lw_g (lw_at lw_m6 226 rfl) rfl
theorem q1474 : (Jvm.Cond.instanceMethod ({ cls := "java/util/ArrayList", name := "remove", desc := "(I)Ljava/lang/Object;" } : Jvm.MethodName)) ∈ lw_all := lw_g (lw_at lw_m6 227 rfl) rfl
theorem q1475 : (Jvm.Cond.code ({ cls := "java/util/ArrayList", name := "remove", desc := "(I)Ljava/lang/Object;" } : Jvm.MethodName) prog_56_method_29_code (4 : Nat) (Option.some (Jvm.ClassFile.FieldType.object "java/lang/Object"))) ∈ lw_all := lw_g (lw_at lw_m6 228 rfl) rfl
theorem q1476 : (Jvm.Cond.methodLink "java/util/ArrayList" (144 : Nat) ({ cls := "java/util/ArrayList", name := "fastRemove", desc := "([Ljava/lang/Object;I)V" } : Jvm.MethodName)) ∈ lw_all := lw_g (lw_at lw_m6 229 rfl) rfl
theorem q1477 : (Jvm.Cond.privateMethod ({ cls := "java/util/ArrayList", name := "fastRemove", desc := "([Ljava/lang/Object;I)V" } : Jvm.MethodName)) ∈ lw_tbl := lw_at lw_m6 230 rfl
theorem q1478 : (Jvm.Cond.instanceMethod ({ cls := "java/util/ArrayList", name := "fastRemove", desc := "([Ljava/lang/Object;I)V" } : Jvm.MethodName)) ∈ lw_all := lw_g (lw_at lw_m6 231 rfl) rfl
theorem q1479 : (Jvm.Cond.code ({ cls := "java/util/ArrayList", name := "fastRemove", desc := "([Ljava/lang/Object;I)V" } : Jvm.MethodName) prog_56_method_39_code (4 : Nat) (Option.none : Option Jvm.ClassFile.FieldType)) ∈ lw_all := lw_g (lw_at lw_m6 232 rfl) rfl
theorem q1480 : (Jvm.Cond.methodLink "java/util/ArrayList" (112 : Nat) ({ cls := "java/lang/System", name := "arraycopy", desc := "(Ljava/lang/Object;ILjava/lang/Object;II)V" } : Jvm.MethodName)) ∈ lw_all := lw_g (lw_at lw_m6 233 rfl) rfl
theorem q1575 : (Jvm.Cond.instanceMethod ({ cls := "java/util/ArrayList", name := "add", desc := "(Ljava/lang/Object;)Z" } : Jvm.MethodName)) ∈ lw_all := lw_g (lw_at lw_m7 88 rfl) rfl
theorem q1576 : (Jvm.Cond.selects "java/util/ArrayList" ({ cls := "java/util/ArrayList", name := "add", desc := "(Ljava/lang/Object;)Z" } : Jvm.MethodName) ({ cls := "java/util/ArrayList", name := "add", desc := "(Ljava/lang/Object;)Z" } : Jvm.MethodName)) ∈ lw_all := lw_g (lw_at lw_m7 89 rfl) rfl
theorem q1577 : (Jvm.Cond.code ({ cls := "java/util/ArrayList", name := "add", desc := "(Ljava/lang/Object;)Z" } : Jvm.MethodName) prog_56_method_25_code (2 : Nat) (Option.some Jvm.ClassFile.FieldType.boolean)) ∈ lw_all := lw_g (lw_at lw_m7 90 rfl) rfl
theorem q1578 : (Jvm.Cond.methodLink "java/util/ArrayList" (131 : Nat) ({ cls := "java/util/ArrayList", name := "add", desc := "(Ljava/lang/Object;[Ljava/lang/Object;I)V" } : Jvm.MethodName)) ∈ lw_all := lw_g (lw_at lw_m7 91 rfl) rfl
theorem q1579 : (Jvm.Cond.privateMethod ({ cls := "java/util/ArrayList", name := "add", desc := "(Ljava/lang/Object;[Ljava/lang/Object;I)V" } : Jvm.MethodName)) ∈ lw_tbl := lw_at lw_m7 92 rfl
theorem q1580 : (Jvm.Cond.instanceMethod ({ cls := "java/util/ArrayList", name := "add", desc := "(Ljava/lang/Object;[Ljava/lang/Object;I)V" } : Jvm.MethodName)) ∈ lw_all := lw_g (lw_at lw_m7 93 rfl) rfl
theorem q1581 : (Jvm.Cond.code ({ cls := "java/util/ArrayList", name := "add", desc := "(Ljava/lang/Object;[Ljava/lang/Object;I)V" } : Jvm.MethodName) prog_56_method_24_code (4 : Nat) (Option.none : Option Jvm.ClassFile.FieldType)) ∈ lw_all := lw_g (lw_at lw_m7 94 rfl) rfl
theorem q1582 : (Jvm.Cond.methodLink "java/util/ArrayList" (129 : Nat) ({ cls := "java/util/ArrayList", name := "grow", desc := "()[Ljava/lang/Object;" } : Jvm.MethodName)) ∈ lw_all := lw_g (lw_at lw_m7 95 rfl) rfl
theorem q1583 : (Jvm.Cond.privateMethod ({ cls := "java/util/ArrayList", name := "grow", desc := "()[Ljava/lang/Object;" } : Jvm.MethodName)) ∈ lw_tbl := lw_at lw_m7 96 rfl
theorem q1584 : (Jvm.Cond.instanceMethod ({ cls := "java/util/ArrayList", name := "grow", desc := "()[Ljava/lang/Object;" } : Jvm.MethodName)) ∈ lw_all := lw_g (lw_at lw_m7 97 rfl) rfl
theorem q1585 : (Jvm.Cond.code ({ cls := "java/util/ArrayList", name := "grow", desc := "()[Ljava/lang/Object;" } : Jvm.MethodName) prog_56_method_7_code (1 : Nat) (Option.some (Jvm.ClassFile.FieldType.array (Jvm.ClassFile.FieldType.object "java/lang/Object")))) ∈ lw_all := lw_g (lw_at lw_m7 98 rfl) rfl
theorem q1586 : (Jvm.Cond.methodLink "java/util/ArrayList" (69 : Nat) ({ cls := "java/util/ArrayList", name := "grow", desc := "(I)[Ljava/lang/Object;" } : Jvm.MethodName)) ∈ lw_all := lw_g (lw_at lw_m7 99 rfl) rfl
theorem q1587 : (Jvm.Cond.privateMethod ({ cls := "java/util/ArrayList", name := "grow", desc := "(I)[Ljava/lang/Object;" } : Jvm.MethodName)) ∈ lw_tbl := lw_at lw_m7 100 rfl
theorem q1588 : (Jvm.Cond.instanceMethod ({ cls := "java/util/ArrayList", name := "grow", desc := "(I)[Ljava/lang/Object;" } : Jvm.MethodName)) ∈ lw_all := lw_g (lw_at lw_m7 101 rfl) rfl
theorem q1589 : (Jvm.Cond.code ({ cls := "java/util/ArrayList", name := "grow", desc := "(I)[Ljava/lang/Object;" } : Jvm.MethodName) prog_56_method_6_code (4 : Nat) (Option.some (Jvm.ClassFile.FieldType.array (Jvm.ClassFile.FieldType.object "java/lang/Object")))) ∈ lw_all := lw_g (lw_at lw_m7 102 rfl) rfl
theorem q1590 : (Jvm.Cond.fieldLink "java/util/ArrayList" (39 : Nat) "java/util/ArrayList" "DEFAULTCAPACITY_EMPTY_ELEMENTDATA" "[Ljava/lang/Object;") ∈ lw_all := lw_g (lw_at lw_m7 103 rfl) rfl
theorem q1591 : (Jvm.Cond.laysStatic "java/util/ArrayList" "DEFAULTCAPACITY_EMPTY_ELEMENTDATA" "[Ljava/lang/Object;") ∈ lw_tbl := lw_at lw_m7 104 rfl
theorem q1592 : (Jvm.Cond.methodLink "java/util/ArrayList" (73 : Nat) ({ cls := "jdk/internal/util/ArraysSupport", name := "newLength", desc := "(III)I" } : Jvm.MethodName)) ∈ lw_all := lw_g (lw_at lw_m7 105 rfl) rfl
theorem q1593 : (Jvm.Cond.methodLink "java/util/ArrayList" (66 : Nat) ({ cls := "java/util/Arrays", name := "copyOf", desc := "([Ljava/lang/Object;I)[Ljava/lang/Object;" } : Jvm.MethodName)) ∈ lw_all := lw_g (lw_at lw_m7 106 rfl) rfl
theorem q1594 : (Jvm.Cond.methodLink "java/util/ArrayList" (79 : Nat) ({ cls := "java/lang/Math", name := "max", desc := "(II)I" } : Jvm.MethodName)) ∈ lw_all := lw_g (lw_at lw_m7 107 rfl) rfl
theorem q1761 : (Jvm.Cond.instanceMethod ({ cls := "java/util/ArrayList", name := "<init>", desc := "()V" } : Jvm.MethodName)) ∈ lw_all := lw_g (lw_at lw_m8 34 rfl) rfl
theorem q1762 : (Jvm.Cond.code ({ cls := "java/util/ArrayList", name := "<init>", desc := "()V" } : Jvm.MethodName) prog_56_method_2_code (1 : Nat) (Option.none : Option Jvm.ClassFile.FieldType)) ∈ lw_all := lw_g (lw_at lw_m8 35 rfl) rfl
theorem q1764 : (Jvm.Cond.instanceMethod ({ cls := "java/util/ArrayList", name := "isEmpty", desc := "()Z" } : Jvm.MethodName)) ∈ lw_all := lw_g (lw_at lw_m8 37 rfl) rfl
theorem q1765 : (Jvm.Cond.selects "java/util/ArrayList" ({ cls := "java/util/ArrayList", name := "isEmpty", desc := "()Z" } : Jvm.MethodName) ({ cls := "java/util/ArrayList", name := "isEmpty", desc := "()Z" } : Jvm.MethodName)) ∈ lw_all := lw_g (lw_at lw_m8 38 rfl) rfl
theorem q1766 : (Jvm.Cond.code ({ cls := "java/util/ArrayList", name := "isEmpty", desc := "()Z" } : Jvm.MethodName) prog_56_method_9_code (1 : Nat) (Option.some Jvm.ClassFile.FieldType.boolean)) ∈ lw_all := lw_g (lw_at lw_m8 39 rfl) rfl
theorem q1779 : (Jvm.Cond.selects "java/util/ArrayList" ({ cls := "java/util/List", name := "size", desc := "()I" } : Jvm.MethodName) ({ cls := "java/util/ArrayList", name := "size", desc := "()I" } : Jvm.MethodName)) ∈ lw_all := lw_g (lw_at lw_m8 52 rfl) rfl
theorem q1780 : (Jvm.Cond.unhidden "java/util/ArrayList" "size" "()I") ∈ lw_tbl := lw_at lw_m8 53 rfl
theorem q1781 : (Jvm.Cond.publicMethod ({ cls := "java/util/ArrayList", name := "size", desc := "()I" } : Jvm.MethodName)) ∈ lw_tbl := lw_at lw_m8 54 rfl
theorem q1800 : (Jvm.Cond.selects "java/util/ArrayList" ({ cls := "java/util/List", name := "set", desc := "(ILjava/lang/Object;)Ljava/lang/Object;" } : Jvm.MethodName) ({ cls := "java/util/ArrayList", name := "set", desc := "(ILjava/lang/Object;)Ljava/lang/Object;" } : Jvm.MethodName)) ∈ lw_all := lw_g (lw_at lw_m8 73 rfl) rfl
theorem q1801 : (Jvm.Cond.unhidden "java/util/ArrayList" "set" "(ILjava/lang/Object;)Ljava/lang/Object;") ∈ lw_tbl := lw_at lw_m8 74 rfl
theorem q1802 : (Jvm.Cond.instanceMethod ({ cls := "java/util/ArrayList", name := "set", desc := "(ILjava/lang/Object;)Ljava/lang/Object;" } : Jvm.MethodName)) ∈ lw_all := lw_g (lw_at lw_m8 75 rfl) rfl
theorem q1803 : (Jvm.Cond.publicMethod ({ cls := "java/util/ArrayList", name := "set", desc := "(ILjava/lang/Object;)Ljava/lang/Object;" } : Jvm.MethodName)) ∈ lw_tbl := lw_at lw_m8 76 rfl
theorem q1804 : (Jvm.Cond.code ({ cls := "java/util/ArrayList", name := "set", desc := "(ILjava/lang/Object;)Ljava/lang/Object;" } : Jvm.MethodName) prog_56_method_23_code (4 : Nat) (Option.some (Jvm.ClassFile.FieldType.object "java/lang/Object"))) ∈ lw_all := lw_g (lw_at lw_m8 77 rfl) rfl
theorem q1820 : (Jvm.Cond.selects "java/util/ArrayList" ({ cls := "java/util/List", name := "listIterator", desc := "()Ljava/util/ListIterator;" } : Jvm.MethodName) ({ cls := "java/util/ArrayList", name := "listIterator", desc := "()Ljava/util/ListIterator;" } : Jvm.MethodName)) ∈ lw_all := lw_g (lw_at lw_m8 93 rfl) rfl
theorem q1821 : (Jvm.Cond.unhidden "java/util/ArrayList" "listIterator" "()Ljava/util/ListIterator;") ∈ lw_tbl := lw_at lw_m8 94 rfl
theorem q1822 : (Jvm.Cond.instanceMethod ({ cls := "java/util/ArrayList", name := "listIterator", desc := "()Ljava/util/ListIterator;" } : Jvm.MethodName)) ∈ lw_all := lw_g (lw_at lw_m8 95 rfl) rfl
theorem q1823 : (Jvm.Cond.publicMethod ({ cls := "java/util/ArrayList", name := "listIterator", desc := "()Ljava/util/ListIterator;" } : Jvm.MethodName)) ∈ lw_tbl := lw_at lw_m8 96 rfl
theorem q1824 : (Jvm.Cond.code ({ cls := "java/util/ArrayList", name := "listIterator", desc := "()Ljava/util/ListIterator;" } : Jvm.MethodName) prog_56_method_54_code (1 : Nat) (Option.some (Jvm.ClassFile.FieldType.object "java/util/ListIterator"))) ∈ lw_all := lw_g (lw_at lw_m8 97 rfl) rfl
theorem q1878 : (Jvm.Cond.selects "java/util/ArrayList" ({ cls := "java/util/List", name := "listIterator", desc := "(I)Ljava/util/ListIterator;" } : Jvm.MethodName) ({ cls := "java/util/ArrayList", name := "listIterator", desc := "(I)Ljava/util/ListIterator;" } : Jvm.MethodName)) ∈ lw_all := lw_g (lw_at lw_m8 151 rfl) rfl
theorem q1879 : (Jvm.Cond.unhidden "java/util/ArrayList" "listIterator" "(I)Ljava/util/ListIterator;") ∈ lw_tbl := lw_at lw_m8 152 rfl
theorem q1880 : (Jvm.Cond.publicMethod ({ cls := "java/util/ArrayList", name := "listIterator", desc := "(I)Ljava/util/ListIterator;" } : Jvm.MethodName)) ∈ lw_tbl := lw_at lw_m8 153 rfl
theorem q1954 : (Jvm.Cond.selects "java/util/ArrayList" ({ cls := "java/util/AbstractList", name := "set", desc := "(ILjava/lang/Object;)Ljava/lang/Object;" } : Jvm.MethodName) ({ cls := "java/util/ArrayList", name := "set", desc := "(ILjava/lang/Object;)Ljava/lang/Object;" } : Jvm.MethodName)) ∈ lw_all := lw_g (lw_at lw_m8 227 rfl) rfl
theorem q1990 : (Jvm.Cond.selects "java/util/ArrayList" ({ cls := "java/util/List", name := "iterator", desc := "()Ljava/util/Iterator;" } : Jvm.MethodName) ({ cls := "java/util/ArrayList", name := "iterator", desc := "()Ljava/util/Iterator;" } : Jvm.MethodName)) ∈ lw_all := lw_g (lw_at lw_m9 23 rfl) rfl
theorem q1991 : (Jvm.Cond.unhidden "java/util/ArrayList" "iterator" "()Ljava/util/Iterator;") ∈ lw_tbl := lw_at lw_m9 24 rfl
theorem q1992 : (Jvm.Cond.publicMethod ({ cls := "java/util/ArrayList", name := "iterator", desc := "()Ljava/util/Iterator;" } : Jvm.MethodName)) ∈ lw_tbl := lw_at lw_m9 25 rfl
theorem q2546 : (Jvm.Cond.selects "java/util/ArrayList" ({ cls := "java/util/ArrayList", name := "remove", desc := "(I)Ljava/lang/Object;" } : Jvm.MethodName) ({ cls := "java/util/ArrayList", name := "remove", desc := "(I)Ljava/lang/Object;" } : Jvm.MethodName)) ∈ lw_all := lw_g (lw_at lw_m11 99 rfl) rfl
theorem q2547 : (Jvm.Cond.selects "java/util/ArrayList" ({ cls := "java/util/ArrayList", name := "size", desc := "()I" } : Jvm.MethodName) ({ cls := "java/util/ArrayList", name := "size", desc := "()I" } : Jvm.MethodName)) ∈ lw_all := lw_g (lw_at lw_m11 100 rfl) rfl
theorem q2548 : (Jvm.Cond.selects "java/util/ArrayList" ({ cls := "java/util/ArrayList", name := "get", desc := "(I)Ljava/lang/Object;" } : Jvm.MethodName) ({ cls := "java/util/ArrayList", name := "get", desc := "(I)Ljava/lang/Object;" } : Jvm.MethodName)) ∈ lw_all := lw_g (lw_at lw_m11 101 rfl) rfl
theorem q2549 : (Jvm.Cond.selects "java/util/ArrayList" ({ cls := "java/util/ArrayList", name := "set", desc := "(ILjava/lang/Object;)Ljava/lang/Object;" } : Jvm.MethodName) ({ cls := "java/util/ArrayList", name := "set", desc := "(ILjava/lang/Object;)Ljava/lang/Object;" } : Jvm.MethodName)) ∈ lw_all := lw_g (lw_at lw_m11 102 rfl) rfl
theorem q2555 : (Jvm.Cond.castable "java/util/ArrayList" "java/util/RandomAccess") ∈ lw_tbl := lw_at lw_m11 108 rfl
theorem q2560 : (Jvm.Cond.castable "java/util/ArrayList" "java/lang/Object") ∈ lw_tbl := lw_at lw_m11 113 rfl
theorem in_J3 : ∀ w ∈ wsJ30, w ∈ lw_all := lw_in wsJ30 [492, 488, 490] (by decide +kernel) (by decide +kernel)

/-! java/lang/Throwable -/
set_option maxRecDepth 100000
def RJ4 : String := "java/lang/Throwable"
def TJ4 : u_T := fun k => match k with
  | 0 => ("java/lang/Throwable", "cause", "Ljava/lang/Throwable;", false)
  | 1 => ("java/lang/Throwable", "stackTrace", "[Ljava/lang/StackTraceElement;", false)
  | 2 => ("java/lang/Throwable", "suppressedExceptions", "Ljava/util/List;", false)
  | 3 => ("java/lang/Throwable", "detailMessage", "Ljava/lang/String;", false)
  | _ => ("java/lang/Throwable", "backtrace", "Ljava/lang/Object;", false)
def tyJ4 : Nat → FieldType := fun k => match k with
  | 0 => .object "java/lang/Throwable"
  | 1 => .array (.object "java/lang/StackTraceElement")
  | 2 => .object "java/util/List"
  | 3 => .object "java/lang/String"
  | _ => .object "java/lang/Object"
abbrev wsJ40 : List Cond := u_ws RJ4 TJ4 5
theorem nmJ4 : ∀ a, a < 5 → ∀ b, b < 5 → a ≠ b → (TJ4 a).2.1 ≠ (TJ4 b).2.1 := by decide +kernel
theorem tyJ4_ok : ∀ k, k < 5 → parseFieldDescriptor (TJ4 k).2.2.1 = some (tyJ4 k) := by decide +kernel
abbrev cJ4_init : ByteArray := prog_45_method_1_code
def yJ4_init : MethodName := ⟨RJ4, "<init>", "()V"⟩
def dkwJ4_init_1 : List UInt8 := [182, 0, 27, 87, 177]
abbrev dktJ4_init_1 : List UInt8 := dkwJ4_init_1 ++ []
def dkwJ4_init_0 : List UInt8 := [42, 183, 0, 1, 42, 42, 181, 0, 7, 42, 178, 0, 13, 181, 0, 17, 42, 178, 0, 20, 181, 0, 24, 42]
abbrev dktJ4_init_0 : List UInt8 := dkwJ4_init_0 ++ dktJ4_init_1
theorem dksJ4_init_0 : cJ4_init.data.toList.drop 0 = dktJ4_init_0 := by decide +kernel
theorem dksJ4_init_1 : cJ4_init.data.toList.drop 24 = dktJ4_init_1 := dk_seg dksJ4_init_0 24 rfl rfl
theorem dJ4_init_0 : decode cJ4_init 0 = .ok (.aload_n 0, 1) := dk_42 (dk_at dksJ4_init_0 0 rfl rfl)
theorem dJ4_init_1 : decode cJ4_init 1 = .ok (.invokespecial 1, 3) := dk_183 0 1 (dk_at dksJ4_init_0 1 rfl rfl)
theorem dJ4_init_4 : decode cJ4_init 4 = .ok (.aload_n 0, 1) := dk_42 (dk_at dksJ4_init_0 4 rfl rfl)
theorem dJ4_init_5 : decode cJ4_init 5 = .ok (.aload_n 0, 1) := dk_42 (dk_at dksJ4_init_0 5 rfl rfl)
theorem dJ4_init_6 : decode cJ4_init 6 = .ok (.putfield 7, 3) := dk_181 0 7 (dk_at dksJ4_init_0 6 rfl rfl)
theorem dJ4_init_9 : decode cJ4_init 9 = .ok (.aload_n 0, 1) := dk_42 (dk_at dksJ4_init_0 9 rfl rfl)
theorem dJ4_init_10 : decode cJ4_init 10 = .ok (.getstatic 13, 3) := dk_178 0 13 (dk_at dksJ4_init_0 10 rfl rfl)
theorem dJ4_init_13 : decode cJ4_init 13 = .ok (.putfield 17, 3) := dk_181 0 17 (dk_at dksJ4_init_0 13 rfl rfl)
theorem dJ4_init_16 : decode cJ4_init 16 = .ok (.aload_n 0, 1) := dk_42 (dk_at dksJ4_init_0 16 rfl rfl)
theorem dJ4_init_17 : decode cJ4_init 17 = .ok (.getstatic 20, 3) := dk_178 0 20 (dk_at dksJ4_init_0 17 rfl rfl)
theorem dJ4_init_20 : decode cJ4_init 20 = .ok (.putfield 24, 3) := dk_181 0 24 (dk_at dksJ4_init_0 20 rfl rfl)
theorem dJ4_init_23 : decode cJ4_init 23 = .ok (.aload_n 0, 1) := dk_42 (dk_at dksJ4_init_0 23 rfl rfl)
theorem dJ4_init_24 : decode cJ4_init 24 = .ok (.invokevirtual 27, 3) := dk_182 0 27 (dk_at dksJ4_init_1 0 rfl rfl)
theorem dJ4_init_27 : decode cJ4_init 27 = .ok (.pop, 1) := dk_87 (dk_at dksJ4_init_1 3 rfl rfl)
theorem dJ4_init_28 : decode cJ4_init 28 = .ok (.return_, 1) := dk_177 (dk_at dksJ4_init_1 4 rfl rfl)
abbrev cJ4_init_2 : ByteArray := prog_45_method_2_code
def yJ4_init_2 : MethodName := ⟨RJ4, "<init>", "(Ljava/lang/String;)V"⟩
def dkwJ4_init_2_1 : List UInt8 := [182, 0, 27, 87, 42, 43, 181, 0, 31, 177]
abbrev dktJ4_init_2_1 : List UInt8 := dkwJ4_init_2_1 ++ []
def dkwJ4_init_2_0 : List UInt8 := [42, 183, 0, 1, 42, 42, 181, 0, 7, 42, 178, 0, 13, 181, 0, 17, 42, 178, 0, 20, 181, 0, 24, 42]
abbrev dktJ4_init_2_0 : List UInt8 := dkwJ4_init_2_0 ++ dktJ4_init_2_1
theorem dksJ4_init_2_0 : cJ4_init_2.data.toList.drop 0 = dktJ4_init_2_0 := by decide +kernel
theorem dksJ4_init_2_1 : cJ4_init_2.data.toList.drop 24 = dktJ4_init_2_1 := dk_seg dksJ4_init_2_0 24 rfl rfl
theorem dJ4_init_2_0 : decode cJ4_init_2 0 = .ok (.aload_n 0, 1) := dk_42 (dk_at dksJ4_init_2_0 0 rfl rfl)
theorem dJ4_init_2_1 : decode cJ4_init_2 1 = .ok (.invokespecial 1, 3) := dk_183 0 1 (dk_at dksJ4_init_2_0 1 rfl rfl)
theorem dJ4_init_2_4 : decode cJ4_init_2 4 = .ok (.aload_n 0, 1) := dk_42 (dk_at dksJ4_init_2_0 4 rfl rfl)
theorem dJ4_init_2_5 : decode cJ4_init_2 5 = .ok (.aload_n 0, 1) := dk_42 (dk_at dksJ4_init_2_0 5 rfl rfl)
theorem dJ4_init_2_6 : decode cJ4_init_2 6 = .ok (.putfield 7, 3) := dk_181 0 7 (dk_at dksJ4_init_2_0 6 rfl rfl)
theorem dJ4_init_2_9 : decode cJ4_init_2 9 = .ok (.aload_n 0, 1) := dk_42 (dk_at dksJ4_init_2_0 9 rfl rfl)
theorem dJ4_init_2_10 : decode cJ4_init_2 10 = .ok (.getstatic 13, 3) := dk_178 0 13 (dk_at dksJ4_init_2_0 10 rfl rfl)
theorem dJ4_init_2_13 : decode cJ4_init_2 13 = .ok (.putfield 17, 3) := dk_181 0 17 (dk_at dksJ4_init_2_0 13 rfl rfl)
theorem dJ4_init_2_16 : decode cJ4_init_2 16 = .ok (.aload_n 0, 1) := dk_42 (dk_at dksJ4_init_2_0 16 rfl rfl)
theorem dJ4_init_2_17 : decode cJ4_init_2 17 = .ok (.getstatic 20, 3) := dk_178 0 20 (dk_at dksJ4_init_2_0 17 rfl rfl)
theorem dJ4_init_2_20 : decode cJ4_init_2 20 = .ok (.putfield 24, 3) := dk_181 0 24 (dk_at dksJ4_init_2_0 20 rfl rfl)
theorem dJ4_init_2_23 : decode cJ4_init_2 23 = .ok (.aload_n 0, 1) := dk_42 (dk_at dksJ4_init_2_0 23 rfl rfl)
theorem dJ4_init_2_24 : decode cJ4_init_2 24 = .ok (.invokevirtual 27, 3) := dk_182 0 27 (dk_at dksJ4_init_2_1 0 rfl rfl)
theorem dJ4_init_2_27 : decode cJ4_init_2 27 = .ok (.pop, 1) := dk_87 (dk_at dksJ4_init_2_1 3 rfl rfl)
theorem dJ4_init_2_28 : decode cJ4_init_2 28 = .ok (.aload_n 0, 1) := dk_42 (dk_at dksJ4_init_2_1 4 rfl rfl)
theorem dJ4_init_2_29 : decode cJ4_init_2 29 = .ok (.aload_n 1, 1) := dk_43 (dk_at dksJ4_init_2_1 5 rfl rfl)
theorem dJ4_init_2_30 : decode cJ4_init_2 30 = .ok (.putfield 31, 3) := dk_181 0 31 (dk_at dksJ4_init_2_1 6 rfl rfl)
theorem dJ4_init_2_33 : decode cJ4_init_2 33 = .ok (.return_, 1) := dk_177 (dk_at dksJ4_init_2_1 9 rfl rfl)
abbrev cJ4_init_3 : ByteArray := prog_45_method_4_code
def yJ4_init_3 : MethodName := ⟨RJ4, "<init>", "(Ljava/lang/Throwable;)V"⟩
def dkwJ4_init_3_2 : List UInt8 := [181, 0, 7, 177]
abbrev dktJ4_init_3_2 : List UInt8 := dkwJ4_init_3_2 ++ []
def dkwJ4_init_3_1 : List UInt8 := [182, 0, 27, 87, 42, 43, 199, 0, 7, 1, 167, 0, 7, 43, 182, 0, 35, 181, 0, 31, 42, 43]
abbrev dktJ4_init_3_1 : List UInt8 := dkwJ4_init_3_1 ++ dktJ4_init_3_2
def dkwJ4_init_3_0 : List UInt8 := [42, 183, 0, 1, 42, 42, 181, 0, 7, 42, 178, 0, 13, 181, 0, 17, 42, 178, 0, 20, 181, 0, 24, 42]
abbrev dktJ4_init_3_0 : List UInt8 := dkwJ4_init_3_0 ++ dktJ4_init_3_1
theorem dksJ4_init_3_0 : cJ4_init_3.data.toList.drop 0 = dktJ4_init_3_0 := by decide +kernel
theorem dksJ4_init_3_1 : cJ4_init_3.data.toList.drop 24 = dktJ4_init_3_1 := dk_seg dksJ4_init_3_0 24 rfl rfl
theorem dksJ4_init_3_2 : cJ4_init_3.data.toList.drop 46 = dktJ4_init_3_2 := dk_seg dksJ4_init_3_1 22 rfl rfl
theorem dJ4_init_3_0 : decode cJ4_init_3 0 = .ok (.aload_n 0, 1) := dk_42 (dk_at dksJ4_init_3_0 0 rfl rfl)
theorem dJ4_init_3_1 : decode cJ4_init_3 1 = .ok (.invokespecial 1, 3) := dk_183 0 1 (dk_at dksJ4_init_3_0 1 rfl rfl)
theorem dJ4_init_3_4 : decode cJ4_init_3 4 = .ok (.aload_n 0, 1) := dk_42 (dk_at dksJ4_init_3_0 4 rfl rfl)
theorem dJ4_init_3_5 : decode cJ4_init_3 5 = .ok (.aload_n 0, 1) := dk_42 (dk_at dksJ4_init_3_0 5 rfl rfl)
theorem dJ4_init_3_6 : decode cJ4_init_3 6 = .ok (.putfield 7, 3) := dk_181 0 7 (dk_at dksJ4_init_3_0 6 rfl rfl)
theorem dJ4_init_3_9 : decode cJ4_init_3 9 = .ok (.aload_n 0, 1) := dk_42 (dk_at dksJ4_init_3_0 9 rfl rfl)
theorem dJ4_init_3_10 : decode cJ4_init_3 10 = .ok (.getstatic 13, 3) := dk_178 0 13 (dk_at dksJ4_init_3_0 10 rfl rfl)
theorem dJ4_init_3_13 : decode cJ4_init_3 13 = .ok (.putfield 17, 3) := dk_181 0 17 (dk_at dksJ4_init_3_0 13 rfl rfl)
theorem dJ4_init_3_16 : decode cJ4_init_3 16 = .ok (.aload_n 0, 1) := dk_42 (dk_at dksJ4_init_3_0 16 rfl rfl)
theorem dJ4_init_3_17 : decode cJ4_init_3 17 = .ok (.getstatic 20, 3) := dk_178 0 20 (dk_at dksJ4_init_3_0 17 rfl rfl)
theorem dJ4_init_3_20 : decode cJ4_init_3 20 = .ok (.putfield 24, 3) := dk_181 0 24 (dk_at dksJ4_init_3_0 20 rfl rfl)
theorem dJ4_init_3_23 : decode cJ4_init_3 23 = .ok (.aload_n 0, 1) := dk_42 (dk_at dksJ4_init_3_0 23 rfl rfl)
theorem dJ4_init_3_24 : decode cJ4_init_3 24 = .ok (.invokevirtual 27, 3) := dk_182 0 27 (dk_at dksJ4_init_3_1 0 rfl rfl)
theorem dJ4_init_3_27 : decode cJ4_init_3 27 = .ok (.pop, 1) := dk_87 (dk_at dksJ4_init_3_1 3 rfl rfl)
theorem dJ4_init_3_28 : decode cJ4_init_3 28 = .ok (.aload_n 0, 1) := dk_42 (dk_at dksJ4_init_3_1 4 rfl rfl)
theorem dJ4_init_3_29 : decode cJ4_init_3 29 = .ok (.aload_n 1, 1) := dk_43 (dk_at dksJ4_init_3_1 5 rfl rfl)
theorem dJ4_init_3_30 : decode cJ4_init_3 30 = .ok (.ifnonnull 7, 3) := dk_199 0 7 (dk_at dksJ4_init_3_1 6 rfl rfl)
theorem dJ4_init_3_33 : decode cJ4_init_3 33 = .ok (.aconst_null, 1) := dk_1 (dk_at dksJ4_init_3_1 9 rfl rfl)
theorem dJ4_init_3_34 : decode cJ4_init_3 34 = .ok (.goto 7, 3) := dk_167 0 7 (dk_at dksJ4_init_3_1 10 rfl rfl)
theorem dJ4_init_3_37 : decode cJ4_init_3 37 = .ok (.aload_n 1, 1) := dk_43 (dk_at dksJ4_init_3_1 13 rfl rfl)
theorem dJ4_init_3_38 : decode cJ4_init_3 38 = .ok (.invokevirtual 35, 3) := dk_182 0 35 (dk_at dksJ4_init_3_1 14 rfl rfl)
theorem dJ4_init_3_41 : decode cJ4_init_3 41 = .ok (.putfield 31, 3) := dk_181 0 31 (dk_at dksJ4_init_3_1 17 rfl rfl)
theorem dJ4_init_3_44 : decode cJ4_init_3 44 = .ok (.aload_n 0, 1) := dk_42 (dk_at dksJ4_init_3_1 20 rfl rfl)
theorem dJ4_init_3_45 : decode cJ4_init_3 45 = .ok (.aload_n 1, 1) := dk_43 (dk_at dksJ4_init_3_1 21 rfl rfl)
theorem dJ4_init_3_46 : decode cJ4_init_3 46 = .ok (.putfield 7, 3) := dk_181 0 7 (dk_at dksJ4_init_3_2 0 rfl rfl)
theorem dJ4_init_3_49 : decode cJ4_init_3 49 = .ok (.return_, 1) := dk_177 (dk_at dksJ4_init_3_2 3 rfl rfl)
abbrev cJ4_toString : ByteArray := prog_45_method_11_code
def yJ4_toString : MethodName := ⟨RJ4, "toString", "()Ljava/lang/String;"⟩
def dkwJ4_toString_1 : List UInt8 := [43, 182, 0, 49, 18, 81, 182, 0, 49, 44, 182, 0, 49, 182, 0, 60, 167, 0, 4, 43, 176]
abbrev dktJ4_toString_1 : List UInt8 := dkwJ4_toString_1 ++ []
def dkwJ4_toString_0 : List UInt8 := [42, 182, 0, 69, 182, 0, 73, 76, 42, 182, 0, 78, 77, 44, 198, 0, 29, 187, 0, 44, 89, 183, 0, 46]
abbrev dktJ4_toString_0 : List UInt8 := dkwJ4_toString_0 ++ dktJ4_toString_1
theorem dksJ4_toString_0 : cJ4_toString.data.toList.drop 0 = dktJ4_toString_0 := by decide +kernel
theorem dksJ4_toString_1 : cJ4_toString.data.toList.drop 24 = dktJ4_toString_1 := dk_seg dksJ4_toString_0 24 rfl rfl
theorem dJ4_toString_0 : decode cJ4_toString 0 = .ok (.aload_n 0, 1) := dk_42 (dk_at dksJ4_toString_0 0 rfl rfl)
theorem dJ4_toString_1 : decode cJ4_toString 1 = .ok (.invokevirtual 69, 3) := dk_182 0 69 (dk_at dksJ4_toString_0 1 rfl rfl)
theorem dJ4_toString_4 : decode cJ4_toString 4 = .ok (.invokevirtual 73, 3) := dk_182 0 73 (dk_at dksJ4_toString_0 4 rfl rfl)
theorem dJ4_toString_7 : decode cJ4_toString 7 = .ok (.astore_n 1, 1) := dk_76 (dk_at dksJ4_toString_0 7 rfl rfl)
theorem dJ4_toString_8 : decode cJ4_toString 8 = .ok (.aload_n 0, 1) := dk_42 (dk_at dksJ4_toString_0 8 rfl rfl)
theorem dJ4_toString_9 : decode cJ4_toString 9 = .ok (.invokevirtual 78, 3) := dk_182 0 78 (dk_at dksJ4_toString_0 9 rfl rfl)
theorem dJ4_toString_12 : decode cJ4_toString 12 = .ok (.astore_n 2, 1) := dk_77 (dk_at dksJ4_toString_0 12 rfl rfl)
theorem dJ4_toString_13 : decode cJ4_toString 13 = .ok (.aload_n 2, 1) := dk_44 (dk_at dksJ4_toString_0 13 rfl rfl)
theorem dJ4_toString_14 : decode cJ4_toString 14 = .ok (.ifnull 29, 3) := dk_198 0 29 (dk_at dksJ4_toString_0 14 rfl rfl)
theorem dJ4_toString_17 : decode cJ4_toString 17 = .ok (.new 44, 3) := dk_187 0 44 (dk_at dksJ4_toString_0 17 rfl rfl)
theorem dJ4_toString_20 : decode cJ4_toString 20 = .ok (.dup, 1) := dk_89 (dk_at dksJ4_toString_0 20 rfl rfl)
theorem dJ4_toString_21 : decode cJ4_toString 21 = .ok (.invokespecial 46, 3) := dk_183 0 46 (dk_at dksJ4_toString_0 21 rfl rfl)
theorem dJ4_toString_24 : decode cJ4_toString 24 = .ok (.aload_n 1, 1) := dk_43 (dk_at dksJ4_toString_1 0 rfl rfl)
theorem dJ4_toString_25 : decode cJ4_toString 25 = .ok (.invokevirtual 49, 3) := dk_182 0 49 (dk_at dksJ4_toString_1 1 rfl rfl)
theorem dJ4_toString_28 : decode cJ4_toString 28 = .ok (.ldc 81, 2) := dk_18 81 (dk_at dksJ4_toString_1 4 rfl rfl)
theorem dJ4_toString_30 : decode cJ4_toString 30 = .ok (.invokevirtual 49, 3) := dk_182 0 49 (dk_at dksJ4_toString_1 6 rfl rfl)
theorem dJ4_toString_33 : decode cJ4_toString 33 = .ok (.aload_n 2, 1) := dk_44 (dk_at dksJ4_toString_1 9 rfl rfl)
theorem dJ4_toString_34 : decode cJ4_toString 34 = .ok (.invokevirtual 49, 3) := dk_182 0 49 (dk_at dksJ4_toString_1 10 rfl rfl)
theorem dJ4_toString_37 : decode cJ4_toString 37 = .ok (.invokevirtual 60, 3) := dk_182 0 60 (dk_at dksJ4_toString_1 13 rfl rfl)
theorem dJ4_toString_40 : decode cJ4_toString 40 = .ok (.goto 4, 3) := dk_167 0 4 (dk_at dksJ4_toString_1 16 rfl rfl)
theorem dJ4_toString_43 : decode cJ4_toString 43 = .ok (.aload_n 1, 1) := dk_43 (dk_at dksJ4_toString_1 19 rfl rfl)
theorem dJ4_toString_44 : decode cJ4_toString 44 = .ok (.areturn, 1) := dk_176 (dk_at dksJ4_toString_1 20 rfl rfl)
abbrev cJ4_getLocalizedMessage : ByteArray := prog_45_method_7_code
def yJ4_getLocalizedMessage : MethodName := ⟨RJ4, "getLocalizedMessage", "()Ljava/lang/String;"⟩
theorem dJ4_getLocalizedMessage_0 : decode cJ4_getLocalizedMessage 0 = .ok (.aload_n 0, 1) := by decide +kernel
theorem dJ4_getLocalizedMessage_1 : decode cJ4_getLocalizedMessage 1 = .ok (.invokevirtual 39, 3) := by decide +kernel
theorem dJ4_getLocalizedMessage_4 : decode cJ4_getLocalizedMessage 4 = .ok (.areturn, 1) := by decide +kernel
abbrev cJ4_getMessage : ByteArray := prog_45_method_6_code
def yJ4_getMessage : MethodName := ⟨RJ4, "getMessage", "()Ljava/lang/String;"⟩
theorem dJ4_getMessage_0 : decode cJ4_getMessage 0 = .ok (.aload_n 0, 1) := by decide +kernel
theorem dJ4_getMessage_1 : decode cJ4_getMessage 1 = .ok (.getfield 31, 3) := by decide +kernel
theorem dJ4_getMessage_4 : decode cJ4_getMessage 4 = .ok (.areturn, 1) := by decide +kernel
theorem q53 : (Jvm.Cond.initialized "java/lang/Throwable") ∈ lw_all := lw_g (lw_at lw_m1 6 rfl) rfl
theorem q164 : (Jvm.Cond.declares ({ cls := "java/lang/Throwable", name := "<init>", desc := "()V" } : Jvm.MethodName)) ∈ lw_tbl := lw_at lw_m1 117 rfl
theorem q165 : (Jvm.Cond.declares ({ cls := "java/lang/Throwable", name := "<init>", desc := "(Ljava/lang/String;)V" } : Jvm.MethodName)) ∈ lw_tbl := lw_at lw_m1 118 rfl
theorem q169 : (Jvm.Cond.lays "java/lang/Throwable" "java/lang/Throwable" "cause" "Ljava/lang/Throwable;") ∈ lw_all := lw_g (lw_at lw_m1 122 rfl) rfl
theorem q171 : (Jvm.Cond.lays "java/lang/Throwable" "java/lang/Throwable" "stackTrace" "[Ljava/lang/StackTraceElement;") ∈ lw_all := lw_g (lw_at lw_m1 124 rfl) rfl
theorem q173 : (Jvm.Cond.lays "java/lang/Throwable" "java/lang/Throwable" "suppressedExceptions" "Ljava/util/List;") ∈ lw_all := lw_g (lw_at lw_m1 126 rfl) rfl
theorem q175 : (Jvm.Cond.lays "java/lang/Throwable" "java/lang/Throwable" "detailMessage" "Ljava/lang/String;") ∈ lw_all := lw_g (lw_at lw_m1 128 rfl) rfl
theorem q177 : (Jvm.Cond.lays "java/lang/Throwable" "java/lang/Throwable" "backtrace" "Ljava/lang/Object;") ∈ lw_all := lw_g (lw_at lw_m1 130 rfl) rfl
theorem q178 : (Jvm.Cond.fieldLink "java/lang/Throwable" (198 : Nat) "java/lang/Throwable" "backtrace" "Ljava/lang/Object;") ∈ lw_all := lw_g (lw_at lw_m1 131 rfl) rfl
theorem q179 : (Jvm.Cond.superclass "java/lang/Throwable" "java/lang/Object") ∈ lw_all := lw_g (lw_at lw_m1 132 rfl) rfl
theorem q180 : (Jvm.Cond.instanceMethod ({ cls := "java/lang/Throwable", name := "<init>", desc := "()V" } : Jvm.MethodName)) ∈ lw_all := lw_g (lw_at lw_m1 133 rfl) rfl
theorem q181 : (Jvm.Cond.code ({ cls := "java/lang/Throwable", name := "<init>", desc := "()V" } : Jvm.MethodName) prog_45_method_1_code (1 : Nat) (Option.none : Option Jvm.ClassFile.FieldType)) ∈ lw_all := lw_g (lw_at lw_m1 134 rfl) rfl
theorem q182 : (Jvm.Cond.methodLink "java/lang/Throwable" (1 : Nat) ({ cls := "java/lang/Object", name := "<init>", desc := "()V" } : Jvm.MethodName)) ∈ lw_all := lw_g (lw_at lw_m1 135 rfl) rfl
theorem q183 : (Jvm.Cond.fieldLink "java/lang/Throwable" (13 : Nat) "java/lang/Throwable" "UNASSIGNED_STACK" "[Ljava/lang/StackTraceElement;") ∈ lw_all := lw_g (lw_at lw_m1 136 rfl) rfl
theorem q184 : (Jvm.Cond.laysStatic "java/lang/Throwable" "UNASSIGNED_STACK" "[Ljava/lang/StackTraceElement;") ∈ lw_tbl := lw_at lw_m1 137 rfl
theorem q185 : (Jvm.Cond.fieldLink "java/lang/Throwable" (20 : Nat) "java/lang/Throwable" "SUPPRESSED_SENTINEL" "Ljava/util/List;") ∈ lw_all := lw_g (lw_at lw_m1 138 rfl) rfl
theorem q186 : (Jvm.Cond.laysStatic "java/lang/Throwable" "SUPPRESSED_SENTINEL" "Ljava/util/List;") ∈ lw_tbl := lw_at lw_m1 139 rfl
theorem q187 : (Jvm.Cond.methodLink "java/lang/Throwable" (27 : Nat) ({ cls := "java/lang/Throwable", name := "fillInStackTrace", desc := "()Ljava/lang/Throwable;" } : Jvm.MethodName)) ∈ lw_all := lw_g (lw_at lw_m1 140 rfl) rfl
theorem q188 : (Jvm.Cond.instanceMethod ({ cls := "java/lang/Throwable", name := "fillInStackTrace", desc := "()Ljava/lang/Throwable;" } : Jvm.MethodName)) ∈ lw_all := lw_g (lw_at lw_m1 141 rfl) rfl
theorem q189 : (Jvm.Cond.sameMethod "java/lang/Throwable" "java/lang/Throwable" "fillInStackTrace" "()Ljava/lang/Throwable;") ∈ lw_all := lw_g (lw_at lw_m1 142 rfl) rfl
theorem q197 : (Jvm.Cond.codeSync ({ cls := "java/lang/Throwable", name := "fillInStackTrace", desc := "()Ljava/lang/Throwable;" } : Jvm.MethodName) prog_45_method_18_code (1 : Nat) (Option.some (Jvm.ClassFile.FieldType.object "java/lang/Throwable"))) ∈ lw_all := lw_g (lw_at lw_m1 150 rfl) rfl
theorem q198 : (Jvm.Cond.methodLink "java/lang/Throwable" (202 : Nat) ({ cls := "java/lang/Throwable", name := "fillInStackTrace", desc := "(I)Ljava/lang/Throwable;" } : Jvm.MethodName)) ∈ lw_all := lw_g (lw_at lw_m1 151 rfl) rfl
theorem q199 : (Jvm.Cond.privateMethod ({ cls := "java/lang/Throwable", name := "fillInStackTrace", desc := "(I)Ljava/lang/Throwable;" } : Jvm.MethodName)) ∈ lw_tbl := lw_at lw_m1 152 rfl
theorem q200 : (Jvm.Cond.instanceMethod ({ cls := "java/lang/Throwable", name := "fillInStackTrace", desc := "(I)Ljava/lang/Throwable;" } : Jvm.MethodName)) ∈ lw_all := lw_g (lw_at lw_m1 153 rfl) rfl
theorem q201 : (Jvm.Cond.instantiable "java/lang/Throwable" (6 : Nat)) ∈ lw_all := lw_g (lw_at lw_m1 154 rfl) rfl
theorem q202 : (Jvm.Cond.native ({ cls := "java/lang/Throwable", name := "fillInStackTrace", desc := "(I)Ljava/lang/Throwable;" } : Jvm.MethodName)) ∈ lw_all := lw_g (lw_at lw_m1 155 rfl) rfl
theorem q434 : (Jvm.Cond.instanceMethod ({ cls := "java/lang/Throwable", name := "<init>", desc := "(Ljava/lang/String;)V" } : Jvm.MethodName)) ∈ lw_all := lw_g (lw_at lw_m2 147 rfl) rfl
theorem q435 : (Jvm.Cond.code ({ cls := "java/lang/Throwable", name := "<init>", desc := "(Ljava/lang/String;)V" } : Jvm.MethodName) prog_45_method_2_code (2 : Nat) (Option.none : Option Jvm.ClassFile.FieldType)) ∈ lw_all := lw_g (lw_at lw_m2 148 rfl) rfl
theorem q436 : (Jvm.Cond.fieldLink "java/lang/Throwable" (198 : Nat) "java/lang/Throwable" "backtrace" "Ljava/lang/Object;") ∈ lw_all := lw_g (lw_at lw_m2 149 rfl) rfl
theorem q437 : (Jvm.Cond.fieldLink "java/lang/Throwable" (31 : Nat) "java/lang/Throwable" "detailMessage" "Ljava/lang/String;") ∈ lw_all := lw_g (lw_at lw_m2 150 rfl) rfl
theorem q438 : (Jvm.Cond.fieldLink "java/lang/Throwable" (7 : Nat) "java/lang/Throwable" "cause" "Ljava/lang/Throwable;") ∈ lw_all := lw_g (lw_at lw_m2 151 rfl) rfl
theorem q439 : (Jvm.Cond.fieldLink "java/lang/Throwable" (17 : Nat) "java/lang/Throwable" "stackTrace" "[Ljava/lang/StackTraceElement;") ∈ lw_all := lw_g (lw_at lw_m2 152 rfl) rfl
theorem q440 : (Jvm.Cond.fieldLink "java/lang/Throwable" (24 : Nat) "java/lang/Throwable" "suppressedExceptions" "Ljava/util/List;") ∈ lw_all := lw_g (lw_at lw_m2 153 rfl) rfl
theorem q441 : (Jvm.Cond.soleField "java/lang/Throwable" "backtrace") ∈ lw_all := lw_g (lw_at lw_m2 154 rfl) rfl
theorem q442 : (Jvm.Cond.soleField "java/lang/Throwable" "detailMessage") ∈ lw_all := lw_g (lw_at lw_m2 155 rfl) rfl
theorem q443 : (Jvm.Cond.soleField "java/lang/Throwable" "cause") ∈ lw_all := lw_g (lw_at lw_m2 156 rfl) rfl
theorem q444 : (Jvm.Cond.soleField "java/lang/Throwable" "stackTrace") ∈ lw_all := lw_g (lw_at lw_m2 157 rfl) rfl
theorem q446 : (Jvm.Cond.soleField "java/lang/Throwable" "depth") ∈ lw_all := lw_g (lw_at lw_m2 159 rfl) rfl
theorem q447 : (Jvm.Cond.soleField "java/lang/Throwable" "suppressedExceptions") ∈ lw_all := lw_g (lw_at lw_m2 160 rfl) rfl
theorem q804 : (Jvm.Cond.instanceMethod ({ cls := "java/lang/Throwable", name := "<init>", desc := "(Ljava/lang/Throwable;)V" } : Jvm.MethodName)) ∈ lw_all := lw_g (lw_at lw_m4 37 rfl) rfl
theorem q805 : (Jvm.Cond.code ({ cls := "java/lang/Throwable", name := "<init>", desc := "(Ljava/lang/Throwable;)V" } : Jvm.MethodName) prog_45_method_4_code (2 : Nat) (Option.none : Option Jvm.ClassFile.FieldType)) ∈ lw_all := lw_g (lw_at lw_m4 38 rfl) rfl
theorem q806 : (Jvm.Cond.methodLink "java/lang/Throwable" (35 : Nat) ({ cls := "java/lang/Throwable", name := "toString", desc := "()Ljava/lang/String;" } : Jvm.MethodName)) ∈ lw_all := lw_g (lw_at lw_m4 39 rfl) rfl
theorem q807 : (Jvm.Cond.instanceMethod ({ cls := "java/lang/Throwable", name := "toString", desc := "()Ljava/lang/String;" } : Jvm.MethodName)) ∈ lw_all := lw_g (lw_at lw_m4 40 rfl) rfl
theorem q808 : (Jvm.Cond.sameMethod "java/lang/Throwable" "java/lang/Throwable" "toString" "()Ljava/lang/String;") ∈ lw_all := lw_g (lw_at lw_m4 41 rfl) rfl
theorem q817 : (Jvm.Cond.code ({ cls := "java/lang/Throwable", name := "toString", desc := "()Ljava/lang/String;" } : Jvm.MethodName) prog_45_method_11_code (3 : Nat) (Option.some (Jvm.ClassFile.FieldType.object "java/lang/String"))) ∈ lw_all := lw_g (lw_at lw_m4 50 rfl) rfl
theorem q818 : (Jvm.Cond.methodLink "java/lang/Throwable" (69 : Nat) ({ cls := "java/lang/Object", name := "getClass", desc := "()Ljava/lang/Class;" } : Jvm.MethodName)) ∈ lw_all := lw_g (lw_at lw_m4 51 rfl) rfl
theorem q860 : (Jvm.Cond.methodLink "java/lang/Throwable" (78 : Nat) ({ cls := "java/lang/Throwable", name := "getLocalizedMessage", desc := "()Ljava/lang/String;" } : Jvm.MethodName)) ∈ lw_all := lw_g (lw_at lw_m4 93 rfl) rfl
theorem q861 : (Jvm.Cond.instanceMethod ({ cls := "java/lang/Throwable", name := "getLocalizedMessage", desc := "()Ljava/lang/String;" } : Jvm.MethodName)) ∈ lw_all := lw_g (lw_at lw_m4 94 rfl) rfl
theorem q862 : (Jvm.Cond.sameMethod "java/lang/Throwable" "java/lang/Throwable" "getLocalizedMessage" "()Ljava/lang/String;") ∈ lw_all := lw_g (lw_at lw_m4 95 rfl) rfl
theorem q871 : (Jvm.Cond.code ({ cls := "java/lang/Throwable", name := "getLocalizedMessage", desc := "()Ljava/lang/String;" } : Jvm.MethodName) prog_45_method_7_code (1 : Nat) (Option.some (Jvm.ClassFile.FieldType.object "java/lang/String"))) ∈ lw_all := lw_g (lw_at lw_m4 104 rfl) rfl
theorem q872 : (Jvm.Cond.methodLink "java/lang/Throwable" (39 : Nat) ({ cls := "java/lang/Throwable", name := "getMessage", desc := "()Ljava/lang/String;" } : Jvm.MethodName)) ∈ lw_all := lw_g (lw_at lw_m4 105 rfl) rfl
theorem q873 : (Jvm.Cond.instanceMethod ({ cls := "java/lang/Throwable", name := "getMessage", desc := "()Ljava/lang/String;" } : Jvm.MethodName)) ∈ lw_all := lw_g (lw_at lw_m4 106 rfl) rfl
theorem q874 : (Jvm.Cond.sameMethod "java/lang/Throwable" "java/lang/Throwable" "getMessage" "()Ljava/lang/String;") ∈ lw_all := lw_g (lw_at lw_m4 107 rfl) rfl
theorem q883 : (Jvm.Cond.code ({ cls := "java/lang/Throwable", name := "getMessage", desc := "()Ljava/lang/String;" } : Jvm.MethodName) prog_45_method_6_code (1 : Nat) (Option.some (Jvm.ClassFile.FieldType.object "java/lang/String"))) ∈ lw_all := lw_g (lw_at lw_m4 116 rfl) rfl
theorem q884 : (Jvm.Cond.classLink "java/lang/Throwable" (44 : Nat) "java/lang/StringBuilder") ∈ lw_all := lw_g (lw_at lw_m4 117 rfl) rfl
theorem q885 : (Jvm.Cond.methodLink "java/lang/Throwable" (46 : Nat) ({ cls := "java/lang/StringBuilder", name := "<init>", desc := "()V" } : Jvm.MethodName)) ∈ lw_all := lw_g (lw_at lw_m4 118 rfl) rfl
theorem q886 : (Jvm.Cond.methodLink "java/lang/Throwable" (49 : Nat) ({ cls := "java/lang/StringBuilder", name := "append", desc := "(Ljava/lang/String;)Ljava/lang/StringBuilder;" } : Jvm.MethodName)) ∈ lw_all := lw_g (lw_at lw_m4 119 rfl) rfl
theorem q887 : (Jvm.Cond.stringRef "java/lang/Throwable" (81 : Nat) ": ") ∈ lw_tbl := lw_at lw_m4 120 rfl
theorem q888 : (Jvm.Cond.methodLink "java/lang/Throwable" (60 : Nat) ({ cls := "java/lang/StringBuilder", name := "toString", desc := "()Ljava/lang/String;" } : Jvm.MethodName)) ∈ lw_all := lw_g (lw_at lw_m4 121 rfl) rfl
theorem q2535 : (Jvm.Cond.sameMethod "java/lang/Throwable" "java/lang/Throwable" "fillInStackTrace" "(I)Ljava/lang/Throwable;") ∈ lw_all := lw_g (lw_at lw_m11 88 rfl) rfl
theorem q2595 : (Jvm.Cond.castable "java/lang/Throwable" "java/lang/Object") ∈ lw_tbl := lw_at lw_m11 148 rfl
theorem in_J4 : ∀ w ∈ wsJ40, w ∈ lw_all := lw_in wsJ40 [169, 171, 173, 175, 177] (by decide +kernel) (by decide +kernel)

/-! java/lang/Exception -/
set_option maxRecDepth 100000
def RJ5 : String := "java/lang/Exception"
abbrev cJ5_init : ByteArray := prog_29_method_2_code
def yJ5_init : MethodName := ⟨RJ5, "<init>", "(Ljava/lang/String;)V"⟩
def dkwJ5_init_0 : List UInt8 := [42, 43, 183, 0, 7, 177]
abbrev dktJ5_init_0 : List UInt8 := dkwJ5_init_0 ++ []
theorem dksJ5_init_0 : cJ5_init.data.toList.drop 0 = dktJ5_init_0 := by decide +kernel
theorem dJ5_init_0 : decode cJ5_init 0 = .ok (.aload_n 0, 1) := dk_42 (dk_at dksJ5_init_0 0 rfl rfl)
theorem dJ5_init_1 : decode cJ5_init 1 = .ok (.aload_n 1, 1) := dk_43 (dk_at dksJ5_init_0 1 rfl rfl)
theorem dJ5_init_2 : decode cJ5_init 2 = .ok (.invokespecial 7, 3) := dk_183 0 7 (dk_at dksJ5_init_0 2 rfl rfl)
theorem dJ5_init_5 : decode cJ5_init 5 = .ok (.return_, 1) := dk_177 (dk_at dksJ5_init_0 5 rfl rfl)
abbrev cJ5_init_2 : ByteArray := prog_29_method_4_code
def yJ5_init_2 : MethodName := ⟨RJ5, "<init>", "(Ljava/lang/Throwable;)V"⟩
def dkwJ5_init_2_0 : List UInt8 := [42, 43, 183, 0, 13, 177]
abbrev dktJ5_init_2_0 : List UInt8 := dkwJ5_init_2_0 ++ []
theorem dksJ5_init_2_0 : cJ5_init_2.data.toList.drop 0 = dktJ5_init_2_0 := by decide +kernel
theorem dJ5_init_2_0 : decode cJ5_init_2 0 = .ok (.aload_n 0, 1) := dk_42 (dk_at dksJ5_init_2_0 0 rfl rfl)
theorem dJ5_init_2_1 : decode cJ5_init_2 1 = .ok (.aload_n 1, 1) := dk_43 (dk_at dksJ5_init_2_0 1 rfl rfl)
theorem dJ5_init_2_2 : decode cJ5_init_2 2 = .ok (.invokespecial 13, 3) := dk_183 0 13 (dk_at dksJ5_init_2_0 2 rfl rfl)
theorem dJ5_init_2_5 : decode cJ5_init_2 5 = .ok (.return_, 1) := dk_177 (dk_at dksJ5_init_2_0 5 rfl rfl)
abbrev cJ5_init_3 : ByteArray := prog_29_method_1_code
def yJ5_init_3 : MethodName := ⟨RJ5, "<init>", "()V"⟩
theorem dJ5_init_3_0 : decode cJ5_init_3 0 = .ok (.aload_n 0, 1) := by decide +kernel
theorem dJ5_init_3_1 : decode cJ5_init_3 1 = .ok (.invokespecial 1, 3) := by decide +kernel
theorem dJ5_init_3_4 : decode cJ5_init_3 4 = .ok (.return_, 1) := by decide +kernel
theorem q54 : (Jvm.Cond.initialized "java/lang/Exception") ∈ lw_all := lw_g (lw_at lw_m1 7 rfl) rfl
theorem q162 : (Jvm.Cond.declares ({ cls := "java/lang/Exception", name := "<init>", desc := "()V" } : Jvm.MethodName)) ∈ lw_tbl := lw_at lw_m1 115 rfl
theorem q163 : (Jvm.Cond.declares ({ cls := "java/lang/Exception", name := "<init>", desc := "(Ljava/lang/String;)V" } : Jvm.MethodName)) ∈ lw_tbl := lw_at lw_m1 116 rfl
theorem q431 : (Jvm.Cond.instanceMethod ({ cls := "java/lang/Exception", name := "<init>", desc := "(Ljava/lang/String;)V" } : Jvm.MethodName)) ∈ lw_all := lw_g (lw_at lw_m2 144 rfl) rfl
theorem q432 : (Jvm.Cond.code ({ cls := "java/lang/Exception", name := "<init>", desc := "(Ljava/lang/String;)V" } : Jvm.MethodName) prog_29_method_2_code (2 : Nat) (Option.none : Option Jvm.ClassFile.FieldType)) ∈ lw_all := lw_g (lw_at lw_m2 145 rfl) rfl
theorem q433 : (Jvm.Cond.methodLink "java/lang/Exception" (7 : Nat) ({ cls := "java/lang/Throwable", name := "<init>", desc := "(Ljava/lang/String;)V" } : Jvm.MethodName)) ∈ lw_all := lw_g (lw_at lw_m2 146 rfl) rfl
theorem q801 : (Jvm.Cond.instanceMethod ({ cls := "java/lang/Exception", name := "<init>", desc := "(Ljava/lang/Throwable;)V" } : Jvm.MethodName)) ∈ lw_all := lw_g (lw_at lw_m4 34 rfl) rfl
theorem q802 : (Jvm.Cond.code ({ cls := "java/lang/Exception", name := "<init>", desc := "(Ljava/lang/Throwable;)V" } : Jvm.MethodName) prog_29_method_4_code (2 : Nat) (Option.none : Option Jvm.ClassFile.FieldType)) ∈ lw_all := lw_g (lw_at lw_m4 35 rfl) rfl
theorem q803 : (Jvm.Cond.methodLink "java/lang/Exception" (13 : Nat) ({ cls := "java/lang/Throwable", name := "<init>", desc := "(Ljava/lang/Throwable;)V" } : Jvm.MethodName)) ∈ lw_all := lw_g (lw_at lw_m4 36 rfl) rfl
theorem q904 : (Jvm.Cond.instanceMethod ({ cls := "java/lang/Exception", name := "<init>", desc := "()V" } : Jvm.MethodName)) ∈ lw_all := lw_g (lw_at lw_m4 137 rfl) rfl
theorem q905 : (Jvm.Cond.code ({ cls := "java/lang/Exception", name := "<init>", desc := "()V" } : Jvm.MethodName) prog_29_method_1_code (1 : Nat) (Option.none : Option Jvm.ClassFile.FieldType)) ∈ lw_all := lw_g (lw_at lw_m4 138 rfl) rfl
theorem q906 : (Jvm.Cond.methodLink "java/lang/Exception" (1 : Nat) ({ cls := "java/lang/Throwable", name := "<init>", desc := "()V" } : Jvm.MethodName)) ∈ lw_all := lw_g (lw_at lw_m4 139 rfl) rfl

/-! java/lang/RuntimeException -/
set_option maxRecDepth 100000
def RJ6 : String := "java/lang/RuntimeException"
abbrev cJ6_init : ByteArray := prog_39_method_2_code
def yJ6_init : MethodName := ⟨RJ6, "<init>", "(Ljava/lang/String;)V"⟩
def dkwJ6_init_0 : List UInt8 := [42, 43, 183, 0, 7, 177]
abbrev dktJ6_init_0 : List UInt8 := dkwJ6_init_0 ++ []
theorem dksJ6_init_0 : cJ6_init.data.toList.drop 0 = dktJ6_init_0 := by decide +kernel
theorem dJ6_init_0 : decode cJ6_init 0 = .ok (.aload_n 0, 1) := dk_42 (dk_at dksJ6_init_0 0 rfl rfl)
theorem dJ6_init_1 : decode cJ6_init 1 = .ok (.aload_n 1, 1) := dk_43 (dk_at dksJ6_init_0 1 rfl rfl)
theorem dJ6_init_2 : decode cJ6_init 2 = .ok (.invokespecial 7, 3) := dk_183 0 7 (dk_at dksJ6_init_0 2 rfl rfl)
theorem dJ6_init_5 : decode cJ6_init 5 = .ok (.return_, 1) := dk_177 (dk_at dksJ6_init_0 5 rfl rfl)
abbrev cJ6_init_2 : ByteArray := prog_39_method_4_code
def yJ6_init_2 : MethodName := ⟨RJ6, "<init>", "(Ljava/lang/Throwable;)V"⟩
def dkwJ6_init_2_0 : List UInt8 := [42, 43, 183, 0, 13, 177]
abbrev dktJ6_init_2_0 : List UInt8 := dkwJ6_init_2_0 ++ []
theorem dksJ6_init_2_0 : cJ6_init_2.data.toList.drop 0 = dktJ6_init_2_0 := by decide +kernel
theorem dJ6_init_2_0 : decode cJ6_init_2 0 = .ok (.aload_n 0, 1) := dk_42 (dk_at dksJ6_init_2_0 0 rfl rfl)
theorem dJ6_init_2_1 : decode cJ6_init_2 1 = .ok (.aload_n 1, 1) := dk_43 (dk_at dksJ6_init_2_0 1 rfl rfl)
theorem dJ6_init_2_2 : decode cJ6_init_2 2 = .ok (.invokespecial 13, 3) := dk_183 0 13 (dk_at dksJ6_init_2_0 2 rfl rfl)
theorem dJ6_init_2_5 : decode cJ6_init_2 5 = .ok (.return_, 1) := dk_177 (dk_at dksJ6_init_2_0 5 rfl rfl)
abbrev cJ6_init_3 : ByteArray := prog_39_method_1_code
def yJ6_init_3 : MethodName := ⟨RJ6, "<init>", "()V"⟩
theorem dJ6_init_3_0 : decode cJ6_init_3 0 = .ok (.aload_n 0, 1) := by decide +kernel
theorem dJ6_init_3_1 : decode cJ6_init_3 1 = .ok (.invokespecial 1, 3) := by decide +kernel
theorem dJ6_init_3_4 : decode cJ6_init_3 4 = .ok (.return_, 1) := by decide +kernel
theorem q55 : (Jvm.Cond.initialized "java/lang/RuntimeException") ∈ lw_all := lw_g (lw_at lw_m1 8 rfl) rfl
theorem q160 : (Jvm.Cond.declares ({ cls := "java/lang/RuntimeException", name := "<init>", desc := "()V" } : Jvm.MethodName)) ∈ lw_tbl := lw_at lw_m1 113 rfl
theorem q161 : (Jvm.Cond.declares ({ cls := "java/lang/RuntimeException", name := "<init>", desc := "(Ljava/lang/String;)V" } : Jvm.MethodName)) ∈ lw_tbl := lw_at lw_m1 114 rfl
theorem q428 : (Jvm.Cond.instanceMethod ({ cls := "java/lang/RuntimeException", name := "<init>", desc := "(Ljava/lang/String;)V" } : Jvm.MethodName)) ∈ lw_all := lw_g (lw_at lw_m2 141 rfl) rfl
theorem q429 : (Jvm.Cond.code ({ cls := "java/lang/RuntimeException", name := "<init>", desc := "(Ljava/lang/String;)V" } : Jvm.MethodName) prog_39_method_2_code (2 : Nat) (Option.none : Option Jvm.ClassFile.FieldType)) ∈ lw_all := lw_g (lw_at lw_m2 142 rfl) rfl
theorem q430 : (Jvm.Cond.methodLink "java/lang/RuntimeException" (7 : Nat) ({ cls := "java/lang/Exception", name := "<init>", desc := "(Ljava/lang/String;)V" } : Jvm.MethodName)) ∈ lw_all := lw_g (lw_at lw_m2 143 rfl) rfl
theorem q798 : (Jvm.Cond.instanceMethod ({ cls := "java/lang/RuntimeException", name := "<init>", desc := "(Ljava/lang/Throwable;)V" } : Jvm.MethodName)) ∈ lw_all := lw_g (lw_at lw_m4 31 rfl) rfl
theorem q799 : (Jvm.Cond.code ({ cls := "java/lang/RuntimeException", name := "<init>", desc := "(Ljava/lang/Throwable;)V" } : Jvm.MethodName) prog_39_method_4_code (2 : Nat) (Option.none : Option Jvm.ClassFile.FieldType)) ∈ lw_all := lw_g (lw_at lw_m4 32 rfl) rfl
theorem q800 : (Jvm.Cond.methodLink "java/lang/RuntimeException" (13 : Nat) ({ cls := "java/lang/Exception", name := "<init>", desc := "(Ljava/lang/Throwable;)V" } : Jvm.MethodName)) ∈ lw_all := lw_g (lw_at lw_m4 33 rfl) rfl
theorem q901 : (Jvm.Cond.instanceMethod ({ cls := "java/lang/RuntimeException", name := "<init>", desc := "()V" } : Jvm.MethodName)) ∈ lw_all := lw_g (lw_at lw_m4 134 rfl) rfl
theorem q902 : (Jvm.Cond.code ({ cls := "java/lang/RuntimeException", name := "<init>", desc := "()V" } : Jvm.MethodName) prog_39_method_1_code (1 : Nat) (Option.none : Option Jvm.ClassFile.FieldType)) ∈ lw_all := lw_g (lw_at lw_m4 135 rfl) rfl
theorem q903 : (Jvm.Cond.methodLink "java/lang/RuntimeException" (1 : Nat) ({ cls := "java/lang/Exception", name := "<init>", desc := "()V" } : Jvm.MethodName)) ∈ lw_all := lw_g (lw_at lw_m4 136 rfl) rfl

/-! java/lang/IllegalArgumentException -/
set_option maxRecDepth 100000
def RJ7 : String := "java/lang/IllegalArgumentException"
def TJ7 : u_T := fun k => match k with
  | 0 => ("java/lang/Throwable", "cause", "Ljava/lang/Throwable;", false)
  | 1 => ("java/lang/Throwable", "stackTrace", "[Ljava/lang/StackTraceElement;", false)
  | 2 => ("java/lang/Throwable", "suppressedExceptions", "Ljava/util/List;", false)
  | 3 => ("java/lang/Throwable", "detailMessage", "Ljava/lang/String;", false)
  | 4 => ("java/lang/Throwable", "backtrace", "Ljava/lang/Object;", false)
  | _ => ("java/lang/Throwable", "depth", "I", false)
def tyJ7 : Nat → FieldType := fun k => match k with
  | 0 => .object "java/lang/Throwable"
  | 1 => .array (.object "java/lang/StackTraceElement")
  | 2 => .object "java/util/List"
  | 3 => .object "java/lang/String"
  | 4 => .object "java/lang/Object"
  | _ => .int
abbrev wsJ70 : List Cond := u_ws RJ7 TJ7 6
theorem nmJ7 : ∀ a, a < 6 → ∀ b, b < 6 → a ≠ b → (TJ7 a).2.1 ≠ (TJ7 b).2.1 := by decide +kernel
theorem tyJ7_ok : ∀ k, k < 6 → parseFieldDescriptor (TJ7 k).2.2.1 = some (tyJ7 k) := by decide +kernel
abbrev cJ7_init : ByteArray := prog_30_method_2_code
def yJ7_init : MethodName := ⟨RJ7, "<init>", "(Ljava/lang/String;)V"⟩
def dkwJ7_init_0 : List UInt8 := [42, 43, 183, 0, 7, 177]
abbrev dktJ7_init_0 : List UInt8 := dkwJ7_init_0 ++ []
theorem dksJ7_init_0 : cJ7_init.data.toList.drop 0 = dktJ7_init_0 := by decide +kernel
theorem dJ7_init_0 : decode cJ7_init 0 = .ok (.aload_n 0, 1) := dk_42 (dk_at dksJ7_init_0 0 rfl rfl)
theorem dJ7_init_1 : decode cJ7_init 1 = .ok (.aload_n 1, 1) := dk_43 (dk_at dksJ7_init_0 1 rfl rfl)
theorem dJ7_init_2 : decode cJ7_init 2 = .ok (.invokespecial 7, 3) := dk_183 0 7 (dk_at dksJ7_init_0 2 rfl rfl)
theorem dJ7_init_5 : decode cJ7_init 5 = .ok (.return_, 1) := dk_177 (dk_at dksJ7_init_0 5 rfl rfl)
abbrev cJ7_init_2 : ByteArray := prog_30_method_1_code
def yJ7_init_2 : MethodName := ⟨RJ7, "<init>", "()V"⟩
theorem dJ7_init_2_0 : decode cJ7_init_2 0 = .ok (.aload_n 0, 1) := by decide +kernel
theorem dJ7_init_2_1 : decode cJ7_init_2 1 = .ok (.invokespecial 1, 3) := by decide +kernel
theorem dJ7_init_2_4 : decode cJ7_init_2 4 = .ok (.return_, 1) := by decide +kernel
theorem q56 : (Jvm.Cond.initialized "java/lang/IllegalArgumentException") ∈ lw_all := lw_g (lw_at lw_m1 9 rfl) rfl
theorem q158 : (Jvm.Cond.instantiable "java/lang/IllegalArgumentException" (6 : Nat)) ∈ lw_all := lw_g (lw_at lw_m1 111 rfl) rfl
theorem q159 : (Jvm.Cond.castable "java/lang/IllegalArgumentException" "java/lang/IllegalArgumentException") ∈ lw_tbl := lw_at lw_m1 112 rfl
theorem q166 : (Jvm.Cond.selects "java/lang/IllegalArgumentException" ({ cls := "java/lang/Throwable", name := "fillInStackTrace", desc := "(I)Ljava/lang/Throwable;" } : Jvm.MethodName) ({ cls := "java/lang/Throwable", name := "fillInStackTrace", desc := "(I)Ljava/lang/Throwable;" } : Jvm.MethodName)) ∈ lw_all := lw_g (lw_at lw_m1 119 rfl) rfl
theorem q167 : (Jvm.Cond.selects "java/lang/IllegalArgumentException" ({ cls := "java/lang/Throwable", name := "fillInStackTrace", desc := "()Ljava/lang/Throwable;" } : Jvm.MethodName) ({ cls := "java/lang/Throwable", name := "fillInStackTrace", desc := "()Ljava/lang/Throwable;" } : Jvm.MethodName)) ∈ lw_all := lw_g (lw_at lw_m1 120 rfl) rfl
theorem q168 : (Jvm.Cond.lays "java/lang/IllegalArgumentException" "java/lang/Throwable" "cause" "Ljava/lang/Throwable;") ∈ lw_all := lw_g (lw_at lw_m1 121 rfl) rfl
theorem q170 : (Jvm.Cond.lays "java/lang/IllegalArgumentException" "java/lang/Throwable" "stackTrace" "[Ljava/lang/StackTraceElement;") ∈ lw_all := lw_g (lw_at lw_m1 123 rfl) rfl
theorem q172 : (Jvm.Cond.lays "java/lang/IllegalArgumentException" "java/lang/Throwable" "suppressedExceptions" "Ljava/util/List;") ∈ lw_all := lw_g (lw_at lw_m1 125 rfl) rfl
theorem q174 : (Jvm.Cond.lays "java/lang/IllegalArgumentException" "java/lang/Throwable" "detailMessage" "Ljava/lang/String;") ∈ lw_all := lw_g (lw_at lw_m1 127 rfl) rfl
theorem q176 : (Jvm.Cond.lays "java/lang/IllegalArgumentException" "java/lang/Throwable" "backtrace" "Ljava/lang/Object;") ∈ lw_all := lw_g (lw_at lw_m1 129 rfl) rfl
theorem q425 : (Jvm.Cond.instanceMethod ({ cls := "java/lang/IllegalArgumentException", name := "<init>", desc := "(Ljava/lang/String;)V" } : Jvm.MethodName)) ∈ lw_all := lw_g (lw_at lw_m2 138 rfl) rfl
theorem q426 : (Jvm.Cond.code ({ cls := "java/lang/IllegalArgumentException", name := "<init>", desc := "(Ljava/lang/String;)V" } : Jvm.MethodName) prog_30_method_2_code (2 : Nat) (Option.none : Option Jvm.ClassFile.FieldType)) ∈ lw_all := lw_g (lw_at lw_m2 139 rfl) rfl
theorem q427 : (Jvm.Cond.methodLink "java/lang/IllegalArgumentException" (7 : Nat) ({ cls := "java/lang/RuntimeException", name := "<init>", desc := "(Ljava/lang/String;)V" } : Jvm.MethodName)) ∈ lw_all := lw_g (lw_at lw_m2 140 rfl) rfl
theorem q445 : (Jvm.Cond.lays "java/lang/IllegalArgumentException" "java/lang/Throwable" "depth" "I") ∈ lw_all := lw_g (lw_at lw_m2 158 rfl) rfl
theorem q448 : (Jvm.Cond.superclass "java/lang/IllegalArgumentException" "java/lang/RuntimeException") ∈ lw_all := lw_g (lw_at lw_m2 161 rfl) rfl
theorem q811 : (Jvm.Cond.selects "java/lang/IllegalArgumentException" ({ cls := "java/lang/Throwable", name := "toString", desc := "()Ljava/lang/String;" } : Jvm.MethodName) ({ cls := "java/lang/Throwable", name := "toString", desc := "()Ljava/lang/String;" } : Jvm.MethodName)) ∈ lw_all := lw_g (lw_at lw_m4 44 rfl) rfl
theorem q839 : (Jvm.Cond.selects "java/lang/IllegalArgumentException" ({ cls := "java/lang/Object", name := "getClass", desc := "()Ljava/lang/Class;" } : Jvm.MethodName) ({ cls := "java/lang/Object", name := "getClass", desc := "()Ljava/lang/Class;" } : Jvm.MethodName)) ∈ lw_all := lw_g (lw_at lw_m4 72 rfl) rfl
theorem q865 : (Jvm.Cond.selects "java/lang/IllegalArgumentException" ({ cls := "java/lang/Throwable", name := "getLocalizedMessage", desc := "()Ljava/lang/String;" } : Jvm.MethodName) ({ cls := "java/lang/Throwable", name := "getLocalizedMessage", desc := "()Ljava/lang/String;" } : Jvm.MethodName)) ∈ lw_all := lw_g (lw_at lw_m4 98 rfl) rfl
theorem q877 : (Jvm.Cond.selects "java/lang/IllegalArgumentException" ({ cls := "java/lang/Throwable", name := "getMessage", desc := "()Ljava/lang/String;" } : Jvm.MethodName) ({ cls := "java/lang/Throwable", name := "getMessage", desc := "()Ljava/lang/String;" } : Jvm.MethodName)) ∈ lw_all := lw_g (lw_at lw_m4 110 rfl) rfl
theorem q1137 : (Jvm.Cond.instanceMethod ({ cls := "java/lang/IllegalArgumentException", name := "<init>", desc := "()V" } : Jvm.MethodName)) ∈ lw_all := lw_g (lw_at lw_m5 130 rfl) rfl
theorem q1138 : (Jvm.Cond.code ({ cls := "java/lang/IllegalArgumentException", name := "<init>", desc := "()V" } : Jvm.MethodName) prog_30_method_1_code (1 : Nat) (Option.none : Option Jvm.ClassFile.FieldType)) ∈ lw_all := lw_g (lw_at lw_m5 131 rfl) rfl
theorem q1139 : (Jvm.Cond.methodLink "java/lang/IllegalArgumentException" (1 : Nat) ({ cls := "java/lang/RuntimeException", name := "<init>", desc := "()V" } : Jvm.MethodName)) ∈ lw_all := lw_g (lw_at lw_m5 132 rfl) rfl
theorem q2561 : (Jvm.Cond.castable "java/lang/IllegalArgumentException" "java/lang/Object") ∈ lw_tbl := lw_at lw_m11 114 rfl
theorem in_J7 : ∀ w ∈ wsJ70, w ∈ lw_all := lw_in wsJ70 [168, 170, 172, 174, 176, 445] (by decide +kernel) (by decide +kernel)

/-! java/lang/AbstractStringBuilder -/
set_option maxRecDepth 100000
def RJ8 : String := "java/lang/AbstractStringBuilder"
abbrev cJ8_init : ByteArray := prog_21_method_2_code
def yJ8_init : MethodName := ⟨RJ8, "<init>", "(I)V"⟩
def dkwJ8_init_1 : List UInt8 := [167, 0, 16, 42, 27, 184, 0, 26, 181, 0, 15, 42, 4, 181, 0, 22, 177]
abbrev dktJ8_init_1 : List UInt8 := dkwJ8_init_1 ++ []
def dkwJ8_init_0 : List UInt8 := [42, 183, 0, 3, 178, 0, 18, 153, 0, 18, 42, 27, 188, 8, 181, 0, 15, 42, 3, 181, 0, 22]
abbrev dktJ8_init_0 : List UInt8 := dkwJ8_init_0 ++ dktJ8_init_1
theorem dksJ8_init_0 : cJ8_init.data.toList.drop 0 = dktJ8_init_0 := by decide +kernel
theorem dksJ8_init_1 : cJ8_init.data.toList.drop 22 = dktJ8_init_1 := dk_seg dksJ8_init_0 22 rfl rfl
theorem dJ8_init_0 : decode cJ8_init 0 = .ok (.aload_n 0, 1) := dk_42 (dk_at dksJ8_init_0 0 rfl rfl)
theorem dJ8_init_1 : decode cJ8_init 1 = .ok (.invokespecial 3, 3) := dk_183 0 3 (dk_at dksJ8_init_0 1 rfl rfl)
theorem dJ8_init_4 : decode cJ8_init 4 = .ok (.getstatic 18, 3) := dk_178 0 18 (dk_at dksJ8_init_0 4 rfl rfl)
theorem dJ8_init_7 : decode cJ8_init 7 = .ok (.ifCond .eq 18, 3) := dk_153 0 18 (dk_at dksJ8_init_0 7 rfl rfl)
theorem dJ8_init_10 : decode cJ8_init 10 = .ok (.aload_n 0, 1) := dk_42 (dk_at dksJ8_init_0 10 rfl rfl)
theorem dJ8_init_11 : decode cJ8_init 11 = .ok (.iload_n 1, 1) := dk_27 (dk_at dksJ8_init_0 11 rfl rfl)
theorem dJ8_init_12 : decode cJ8_init 12 = .ok (.newarray .byte, 2) := dk_188_8 (dk_at dksJ8_init_0 12 rfl rfl)
theorem dJ8_init_14 : decode cJ8_init 14 = .ok (.putfield 15, 3) := dk_181 0 15 (dk_at dksJ8_init_0 14 rfl rfl)
theorem dJ8_init_17 : decode cJ8_init 17 = .ok (.aload_n 0, 1) := dk_42 (dk_at dksJ8_init_0 17 rfl rfl)
theorem dJ8_init_18 : decode cJ8_init 18 = .ok (.iconst 0, 1) := dk_3 (dk_at dksJ8_init_0 18 rfl rfl)
theorem dJ8_init_19 : decode cJ8_init 19 = .ok (.putfield 22, 3) := dk_181 0 22 (dk_at dksJ8_init_0 19 rfl rfl)
theorem dJ8_init_22 : decode cJ8_init 22 = .ok (.goto 16, 3) := dk_167 0 16 (dk_at dksJ8_init_1 0 rfl rfl)
theorem dJ8_init_25 : decode cJ8_init 25 = .ok (.aload_n 0, 1) := dk_42 (dk_at dksJ8_init_1 3 rfl rfl)
theorem dJ8_init_26 : decode cJ8_init 26 = .ok (.iload_n 1, 1) := dk_27 (dk_at dksJ8_init_1 4 rfl rfl)
theorem dJ8_init_27 : decode cJ8_init 27 = .ok (.invokestatic 26, 3) := dk_184 0 26 (dk_at dksJ8_init_1 5 rfl rfl)
theorem dJ8_init_30 : decode cJ8_init 30 = .ok (.putfield 15, 3) := dk_181 0 15 (dk_at dksJ8_init_1 8 rfl rfl)
theorem dJ8_init_33 : decode cJ8_init 33 = .ok (.aload_n 0, 1) := dk_42 (dk_at dksJ8_init_1 11 rfl rfl)
theorem dJ8_init_34 : decode cJ8_init 34 = .ok (.iconst 1, 1) := dk_4 (dk_at dksJ8_init_1 12 rfl rfl)
theorem dJ8_init_35 : decode cJ8_init 35 = .ok (.putfield 22, 3) := dk_181 0 22 (dk_at dksJ8_init_1 13 rfl rfl)
theorem dJ8_init_38 : decode cJ8_init 38 = .ok (.return_, 1) := dk_177 (dk_at dksJ8_init_1 16 rfl rfl)
abbrev cJ8_append : ByteArray := prog_21_method_22_code
def yJ8_append : MethodName := ⟨RJ8, "append", "(Ljava/lang/String;)Ljava/lang/AbstractStringBuilder;"⟩
def dkwJ8_append_1 : List UInt8 := [42, 42, 180, 0, 79, 43, 182, 0, 208, 42, 89, 180, 0, 79, 28, 96, 181, 0, 79, 42, 176]
abbrev dktJ8_append_1 : List UInt8 := dkwJ8_append_1 ++ []
def dkwJ8_append_0 : List UInt8 := [43, 199, 0, 8, 42, 182, 0, 204, 176, 43, 182, 0, 32, 61, 42, 42, 180, 0, 79, 28, 96, 182, 0, 100]
abbrev dktJ8_append_0 : List UInt8 := dkwJ8_append_0 ++ dktJ8_append_1
theorem dksJ8_append_0 : cJ8_append.data.toList.drop 0 = dktJ8_append_0 := by decide +kernel
theorem dksJ8_append_1 : cJ8_append.data.toList.drop 24 = dktJ8_append_1 := dk_seg dksJ8_append_0 24 rfl rfl
theorem dJ8_append_0 : decode cJ8_append 0 = .ok (.aload_n 1, 1) := dk_43 (dk_at dksJ8_append_0 0 rfl rfl)
theorem dJ8_append_1 : decode cJ8_append 1 = .ok (.ifnonnull 8, 3) := dk_199 0 8 (dk_at dksJ8_append_0 1 rfl rfl)
theorem dJ8_append_4 : decode cJ8_append 4 = .ok (.aload_n 0, 1) := dk_42 (dk_at dksJ8_append_0 4 rfl rfl)
theorem dJ8_append_5 : decode cJ8_append 5 = .ok (.invokevirtual 204, 3) := dk_182 0 204 (dk_at dksJ8_append_0 5 rfl rfl)
theorem dJ8_append_8 : decode cJ8_append 8 = .ok (.areturn, 1) := dk_176 (dk_at dksJ8_append_0 8 rfl rfl)
theorem dJ8_append_9 : decode cJ8_append 9 = .ok (.aload_n 1, 1) := dk_43 (dk_at dksJ8_append_0 9 rfl rfl)
theorem dJ8_append_10 : decode cJ8_append 10 = .ok (.invokevirtual 32, 3) := dk_182 0 32 (dk_at dksJ8_append_0 10 rfl rfl)
theorem dJ8_append_13 : decode cJ8_append 13 = .ok (.istore_n 2, 1) := dk_61 (dk_at dksJ8_append_0 13 rfl rfl)
theorem dJ8_append_14 : decode cJ8_append 14 = .ok (.aload_n 0, 1) := dk_42 (dk_at dksJ8_append_0 14 rfl rfl)
theorem dJ8_append_15 : decode cJ8_append 15 = .ok (.aload_n 0, 1) := dk_42 (dk_at dksJ8_append_0 15 rfl rfl)
theorem dJ8_append_16 : decode cJ8_append 16 = .ok (.getfield 79, 3) := dk_180 0 79 (dk_at dksJ8_append_0 16 rfl rfl)
theorem dJ8_append_19 : decode cJ8_append 19 = .ok (.iload_n 2, 1) := dk_28 (dk_at dksJ8_append_0 19 rfl rfl)
theorem dJ8_append_20 : decode cJ8_append 20 = .ok (.iadd, 1) := dk_96 (dk_at dksJ8_append_0 20 rfl rfl)
theorem dJ8_append_21 : decode cJ8_append 21 = .ok (.invokevirtual 100, 3) := dk_182 0 100 (dk_at dksJ8_append_0 21 rfl rfl)
theorem dJ8_append_24 : decode cJ8_append 24 = .ok (.aload_n 0, 1) := dk_42 (dk_at dksJ8_append_1 0 rfl rfl)
theorem dJ8_append_25 : decode cJ8_append 25 = .ok (.aload_n 0, 1) := dk_42 (dk_at dksJ8_append_1 1 rfl rfl)
theorem dJ8_append_26 : decode cJ8_append 26 = .ok (.getfield 79, 3) := dk_180 0 79 (dk_at dksJ8_append_1 2 rfl rfl)
theorem dJ8_append_29 : decode cJ8_append 29 = .ok (.aload_n 1, 1) := dk_43 (dk_at dksJ8_append_1 5 rfl rfl)
theorem dJ8_append_30 : decode cJ8_append 30 = .ok (.invokevirtual 208, 3) := dk_182 0 208 (dk_at dksJ8_append_1 6 rfl rfl)
theorem dJ8_append_33 : decode cJ8_append 33 = .ok (.aload_n 0, 1) := dk_42 (dk_at dksJ8_append_1 9 rfl rfl)
theorem dJ8_append_34 : decode cJ8_append 34 = .ok (.dup, 1) := dk_89 (dk_at dksJ8_append_1 10 rfl rfl)
theorem dJ8_append_35 : decode cJ8_append 35 = .ok (.getfield 79, 3) := dk_180 0 79 (dk_at dksJ8_append_1 11 rfl rfl)
theorem dJ8_append_38 : decode cJ8_append 38 = .ok (.iload_n 2, 1) := dk_28 (dk_at dksJ8_append_1 14 rfl rfl)
theorem dJ8_append_39 : decode cJ8_append 39 = .ok (.iadd, 1) := dk_96 (dk_at dksJ8_append_1 15 rfl rfl)
theorem dJ8_append_40 : decode cJ8_append 40 = .ok (.putfield 79, 3) := dk_181 0 79 (dk_at dksJ8_append_1 16 rfl rfl)
theorem dJ8_append_43 : decode cJ8_append 43 = .ok (.aload_n 0, 1) := dk_42 (dk_at dksJ8_append_1 19 rfl rfl)
theorem dJ8_append_44 : decode cJ8_append 44 = .ok (.areturn, 1) := dk_176 (dk_at dksJ8_append_1 20 rfl rfl)
abbrev cJ8_appendNull : ByteArray := prog_21_method_26_code
def yJ8_appendNull : MethodName := ⟨RJ8, "appendNull", "()Ljava/lang/AbstractStringBuilder;"⟩
def dkwJ8_appendNull_3 : List UInt8 := [184, 0, 226, 60, 42, 27, 181, 0, 79, 42, 176]
abbrev dktJ8_appendNull_3 : List UInt8 := dkwJ8_appendNull_3 ++ []
def dkwJ8_appendNull_2 : List UInt8 := [16, 108, 84, 44, 27, 132, 1, 1, 16, 108, 84, 167, 0, 17, 44, 27, 16, 110, 16, 117, 16, 108, 16, 108]
abbrev dktJ8_appendNull_2 : List UInt8 := dkwJ8_appendNull_2 ++ dktJ8_appendNull_3
def dkwJ8_appendNull_1 : List UInt8 := [153, 0, 38, 44, 27, 132, 1, 1, 16, 110, 84, 44, 27, 132, 1, 1, 16, 117, 84, 44, 27, 132, 1, 1]
abbrev dktJ8_appendNull_1 : List UInt8 := dkwJ8_appendNull_1 ++ dktJ8_appendNull_2
def dkwJ8_appendNull_0 : List UInt8 := [42, 42, 180, 0, 79, 7, 96, 182, 0, 100, 42, 180, 0, 79, 60, 42, 180, 0, 15, 77, 42, 182, 0, 83]
abbrev dktJ8_appendNull_0 : List UInt8 := dkwJ8_appendNull_0 ++ dktJ8_appendNull_1
theorem dksJ8_appendNull_0 : cJ8_appendNull.data.toList.drop 0 = dktJ8_appendNull_0 := by decide +kernel
theorem dksJ8_appendNull_1 : cJ8_appendNull.data.toList.drop 24 = dktJ8_appendNull_1 := dk_seg dksJ8_appendNull_0 24 rfl rfl
theorem dksJ8_appendNull_2 : cJ8_appendNull.data.toList.drop 48 = dktJ8_appendNull_2 := dk_seg dksJ8_appendNull_1 24 rfl rfl
theorem dksJ8_appendNull_3 : cJ8_appendNull.data.toList.drop 72 = dktJ8_appendNull_3 := dk_seg dksJ8_appendNull_2 24 rfl rfl
theorem dJ8_appendNull_0 : decode cJ8_appendNull 0 = .ok (.aload_n 0, 1) := dk_42 (dk_at dksJ8_appendNull_0 0 rfl rfl)
theorem dJ8_appendNull_1 : decode cJ8_appendNull 1 = .ok (.aload_n 0, 1) := dk_42 (dk_at dksJ8_appendNull_0 1 rfl rfl)
theorem dJ8_appendNull_2 : decode cJ8_appendNull 2 = .ok (.getfield 79, 3) := dk_180 0 79 (dk_at dksJ8_appendNull_0 2 rfl rfl)
theorem dJ8_appendNull_5 : decode cJ8_appendNull 5 = .ok (.iconst 4, 1) := dk_7 (dk_at dksJ8_appendNull_0 5 rfl rfl)
theorem dJ8_appendNull_6 : decode cJ8_appendNull 6 = .ok (.iadd, 1) := dk_96 (dk_at dksJ8_appendNull_0 6 rfl rfl)
theorem dJ8_appendNull_7 : decode cJ8_appendNull 7 = .ok (.invokevirtual 100, 3) := dk_182 0 100 (dk_at dksJ8_appendNull_0 7 rfl rfl)
theorem dJ8_appendNull_10 : decode cJ8_appendNull 10 = .ok (.aload_n 0, 1) := dk_42 (dk_at dksJ8_appendNull_0 10 rfl rfl)
theorem dJ8_appendNull_11 : decode cJ8_appendNull 11 = .ok (.getfield 79, 3) := dk_180 0 79 (dk_at dksJ8_appendNull_0 11 rfl rfl)
theorem dJ8_appendNull_14 : decode cJ8_appendNull 14 = .ok (.istore_n 1, 1) := dk_60 (dk_at dksJ8_appendNull_0 14 rfl rfl)
theorem dJ8_appendNull_15 : decode cJ8_appendNull 15 = .ok (.aload_n 0, 1) := dk_42 (dk_at dksJ8_appendNull_0 15 rfl rfl)
theorem dJ8_appendNull_16 : decode cJ8_appendNull 16 = .ok (.getfield 15, 3) := dk_180 0 15 (dk_at dksJ8_appendNull_0 16 rfl rfl)
theorem dJ8_appendNull_19 : decode cJ8_appendNull 19 = .ok (.astore_n 2, 1) := dk_77 (dk_at dksJ8_appendNull_0 19 rfl rfl)
theorem dJ8_appendNull_20 : decode cJ8_appendNull 20 = .ok (.aload_n 0, 1) := dk_42 (dk_at dksJ8_appendNull_0 20 rfl rfl)
theorem dJ8_appendNull_21 : decode cJ8_appendNull 21 = .ok (.invokevirtual 83, 3) := dk_182 0 83 (dk_at dksJ8_appendNull_0 21 rfl rfl)
theorem dJ8_appendNull_24 : decode cJ8_appendNull 24 = .ok (.ifCond .eq 38, 3) := dk_153 0 38 (dk_at dksJ8_appendNull_1 0 rfl rfl)
theorem dJ8_appendNull_27 : decode cJ8_appendNull 27 = .ok (.aload_n 2, 1) := dk_44 (dk_at dksJ8_appendNull_1 3 rfl rfl)
theorem dJ8_appendNull_28 : decode cJ8_appendNull 28 = .ok (.iload_n 1, 1) := dk_27 (dk_at dksJ8_appendNull_1 4 rfl rfl)
theorem dJ8_appendNull_29 : decode cJ8_appendNull 29 = .ok (.iinc 1 1, 3) := dk_132 1 1 (dk_at dksJ8_appendNull_1 5 rfl rfl)
theorem dJ8_appendNull_32 : decode cJ8_appendNull 32 = .ok (.bipush 110, 2) := dk_16 110 (dk_at dksJ8_appendNull_1 8 rfl rfl)
theorem dJ8_appendNull_34 : decode cJ8_appendNull 34 = .ok (.bastore, 1) := dk_84 (dk_at dksJ8_appendNull_1 10 rfl rfl)
theorem dJ8_appendNull_35 : decode cJ8_appendNull 35 = .ok (.aload_n 2, 1) := dk_44 (dk_at dksJ8_appendNull_1 11 rfl rfl)
theorem dJ8_appendNull_36 : decode cJ8_appendNull 36 = .ok (.iload_n 1, 1) := dk_27 (dk_at dksJ8_appendNull_1 12 rfl rfl)
theorem dJ8_appendNull_37 : decode cJ8_appendNull 37 = .ok (.iinc 1 1, 3) := dk_132 1 1 (dk_at dksJ8_appendNull_1 13 rfl rfl)
theorem dJ8_appendNull_40 : decode cJ8_appendNull 40 = .ok (.bipush 117, 2) := dk_16 117 (dk_at dksJ8_appendNull_1 16 rfl rfl)
theorem dJ8_appendNull_42 : decode cJ8_appendNull 42 = .ok (.bastore, 1) := dk_84 (dk_at dksJ8_appendNull_1 18 rfl rfl)
theorem dJ8_appendNull_43 : decode cJ8_appendNull 43 = .ok (.aload_n 2, 1) := dk_44 (dk_at dksJ8_appendNull_1 19 rfl rfl)
theorem dJ8_appendNull_44 : decode cJ8_appendNull 44 = .ok (.iload_n 1, 1) := dk_27 (dk_at dksJ8_appendNull_1 20 rfl rfl)
theorem dJ8_appendNull_45 : decode cJ8_appendNull 45 = .ok (.iinc 1 1, 3) := dk_132 1 1 (dk_at dksJ8_appendNull_1 21 rfl rfl)
theorem dJ8_appendNull_48 : decode cJ8_appendNull 48 = .ok (.bipush 108, 2) := dk_16 108 (dk_at dksJ8_appendNull_2 0 rfl rfl)
theorem dJ8_appendNull_50 : decode cJ8_appendNull 50 = .ok (.bastore, 1) := dk_84 (dk_at dksJ8_appendNull_2 2 rfl rfl)
theorem dJ8_appendNull_51 : decode cJ8_appendNull 51 = .ok (.aload_n 2, 1) := dk_44 (dk_at dksJ8_appendNull_2 3 rfl rfl)
theorem dJ8_appendNull_52 : decode cJ8_appendNull 52 = .ok (.iload_n 1, 1) := dk_27 (dk_at dksJ8_appendNull_2 4 rfl rfl)
theorem dJ8_appendNull_53 : decode cJ8_appendNull 53 = .ok (.iinc 1 1, 3) := dk_132 1 1 (dk_at dksJ8_appendNull_2 5 rfl rfl)
theorem dJ8_appendNull_56 : decode cJ8_appendNull 56 = .ok (.bipush 108, 2) := dk_16 108 (dk_at dksJ8_appendNull_2 8 rfl rfl)
theorem dJ8_appendNull_58 : decode cJ8_appendNull 58 = .ok (.bastore, 1) := dk_84 (dk_at dksJ8_appendNull_2 10 rfl rfl)
theorem dJ8_appendNull_59 : decode cJ8_appendNull 59 = .ok (.goto 17, 3) := dk_167 0 17 (dk_at dksJ8_appendNull_2 11 rfl rfl)
theorem dJ8_appendNull_62 : decode cJ8_appendNull 62 = .ok (.aload_n 2, 1) := dk_44 (dk_at dksJ8_appendNull_2 14 rfl rfl)
theorem dJ8_appendNull_63 : decode cJ8_appendNull 63 = .ok (.iload_n 1, 1) := dk_27 (dk_at dksJ8_appendNull_2 15 rfl rfl)
theorem dJ8_appendNull_64 : decode cJ8_appendNull 64 = .ok (.bipush 110, 2) := dk_16 110 (dk_at dksJ8_appendNull_2 16 rfl rfl)
theorem dJ8_appendNull_66 : decode cJ8_appendNull 66 = .ok (.bipush 117, 2) := dk_16 117 (dk_at dksJ8_appendNull_2 18 rfl rfl)
theorem dJ8_appendNull_68 : decode cJ8_appendNull 68 = .ok (.bipush 108, 2) := dk_16 108 (dk_at dksJ8_appendNull_2 20 rfl rfl)
theorem dJ8_appendNull_70 : decode cJ8_appendNull 70 = .ok (.bipush 108, 2) := dk_16 108 (dk_at dksJ8_appendNull_2 22 rfl rfl)
theorem dJ8_appendNull_72 : decode cJ8_appendNull 72 = .ok (.invokestatic 226, 3) := dk_184 0 226 (dk_at dksJ8_appendNull_3 0 rfl rfl)
theorem dJ8_appendNull_75 : decode cJ8_appendNull 75 = .ok (.istore_n 1, 1) := dk_60 (dk_at dksJ8_appendNull_3 3 rfl rfl)
theorem dJ8_appendNull_76 : decode cJ8_appendNull 76 = .ok (.aload_n 0, 1) := dk_42 (dk_at dksJ8_appendNull_3 4 rfl rfl)
theorem dJ8_appendNull_77 : decode cJ8_appendNull 77 = .ok (.iload_n 1, 1) := dk_27 (dk_at dksJ8_appendNull_3 5 rfl rfl)
theorem dJ8_appendNull_78 : decode cJ8_appendNull 78 = .ok (.putfield 79, 3) := dk_181 0 79 (dk_at dksJ8_appendNull_3 6 rfl rfl)
theorem dJ8_appendNull_81 : decode cJ8_appendNull 81 = .ok (.aload_n 0, 1) := dk_42 (dk_at dksJ8_appendNull_3 9 rfl rfl)
theorem dJ8_appendNull_82 : decode cJ8_appendNull 82 = .ok (.areturn, 1) := dk_176 (dk_at dksJ8_appendNull_3 10 rfl rfl)
abbrev cJ8_ensureCapacityInternal : ByteArray := prog_21_method_9_code
def yJ8_ensureCapacityInternal : MethodName := ⟨RJ8, "ensureCapacityInternal", "(I)V"⟩
def dkwJ8_ensureCapacityInternal_1 : List UInt8 := [182, 0, 104, 42, 180, 0, 22, 120, 184, 0, 108, 181, 0, 15, 177]
abbrev dktJ8_ensureCapacityInternal_1 : List UInt8 := dkwJ8_ensureCapacityInternal_1 ++ []
def dkwJ8_ensureCapacityInternal_0 : List UInt8 := [42, 180, 0, 15, 190, 42, 180, 0, 22, 122, 61, 27, 28, 100, 158, 0, 24, 42, 42, 180, 0, 15, 42, 27]
abbrev dktJ8_ensureCapacityInternal_0 : List UInt8 := dkwJ8_ensureCapacityInternal_0 ++ dktJ8_ensureCapacityInternal_1
theorem dksJ8_ensureCapacityInternal_0 : cJ8_ensureCapacityInternal.data.toList.drop 0 = dktJ8_ensureCapacityInternal_0 := by decide +kernel
theorem dksJ8_ensureCapacityInternal_1 : cJ8_ensureCapacityInternal.data.toList.drop 24 = dktJ8_ensureCapacityInternal_1 := dk_seg dksJ8_ensureCapacityInternal_0 24 rfl rfl
theorem dJ8_ensureCapacityInternal_0 : decode cJ8_ensureCapacityInternal 0 = .ok (.aload_n 0, 1) := dk_42 (dk_at dksJ8_ensureCapacityInternal_0 0 rfl rfl)
theorem dJ8_ensureCapacityInternal_1 : decode cJ8_ensureCapacityInternal 1 = .ok (.getfield 15, 3) := dk_180 0 15 (dk_at dksJ8_ensureCapacityInternal_0 1 rfl rfl)
theorem dJ8_ensureCapacityInternal_4 : decode cJ8_ensureCapacityInternal 4 = .ok (.arraylength, 1) := dk_190 (dk_at dksJ8_ensureCapacityInternal_0 4 rfl rfl)
theorem dJ8_ensureCapacityInternal_5 : decode cJ8_ensureCapacityInternal 5 = .ok (.aload_n 0, 1) := dk_42 (dk_at dksJ8_ensureCapacityInternal_0 5 rfl rfl)
theorem dJ8_ensureCapacityInternal_6 : decode cJ8_ensureCapacityInternal 6 = .ok (.getfield 22, 3) := dk_180 0 22 (dk_at dksJ8_ensureCapacityInternal_0 6 rfl rfl)
theorem dJ8_ensureCapacityInternal_9 : decode cJ8_ensureCapacityInternal 9 = .ok (.ishr, 1) := dk_122 (dk_at dksJ8_ensureCapacityInternal_0 9 rfl rfl)
theorem dJ8_ensureCapacityInternal_10 : decode cJ8_ensureCapacityInternal 10 = .ok (.istore_n 2, 1) := dk_61 (dk_at dksJ8_ensureCapacityInternal_0 10 rfl rfl)
theorem dJ8_ensureCapacityInternal_11 : decode cJ8_ensureCapacityInternal 11 = .ok (.iload_n 1, 1) := dk_27 (dk_at dksJ8_ensureCapacityInternal_0 11 rfl rfl)
theorem dJ8_ensureCapacityInternal_12 : decode cJ8_ensureCapacityInternal 12 = .ok (.iload_n 2, 1) := dk_28 (dk_at dksJ8_ensureCapacityInternal_0 12 rfl rfl)
theorem dJ8_ensureCapacityInternal_13 : decode cJ8_ensureCapacityInternal 13 = .ok (.isub, 1) := dk_100 (dk_at dksJ8_ensureCapacityInternal_0 13 rfl rfl)
theorem dJ8_ensureCapacityInternal_14 : decode cJ8_ensureCapacityInternal 14 = .ok (.ifCond .le 24, 3) := dk_158 0 24 (dk_at dksJ8_ensureCapacityInternal_0 14 rfl rfl)
theorem dJ8_ensureCapacityInternal_17 : decode cJ8_ensureCapacityInternal 17 = .ok (.aload_n 0, 1) := dk_42 (dk_at dksJ8_ensureCapacityInternal_0 17 rfl rfl)
theorem dJ8_ensureCapacityInternal_18 : decode cJ8_ensureCapacityInternal 18 = .ok (.aload_n 0, 1) := dk_42 (dk_at dksJ8_ensureCapacityInternal_0 18 rfl rfl)
theorem dJ8_ensureCapacityInternal_19 : decode cJ8_ensureCapacityInternal 19 = .ok (.getfield 15, 3) := dk_180 0 15 (dk_at dksJ8_ensureCapacityInternal_0 19 rfl rfl)
theorem dJ8_ensureCapacityInternal_22 : decode cJ8_ensureCapacityInternal 22 = .ok (.aload_n 0, 1) := dk_42 (dk_at dksJ8_ensureCapacityInternal_0 22 rfl rfl)
theorem dJ8_ensureCapacityInternal_23 : decode cJ8_ensureCapacityInternal 23 = .ok (.iload_n 1, 1) := dk_27 (dk_at dksJ8_ensureCapacityInternal_0 23 rfl rfl)
theorem dJ8_ensureCapacityInternal_24 : decode cJ8_ensureCapacityInternal 24 = .ok (.invokevirtual 104, 3) := dk_182 0 104 (dk_at dksJ8_ensureCapacityInternal_1 0 rfl rfl)
theorem dJ8_ensureCapacityInternal_27 : decode cJ8_ensureCapacityInternal 27 = .ok (.aload_n 0, 1) := dk_42 (dk_at dksJ8_ensureCapacityInternal_1 3 rfl rfl)
theorem dJ8_ensureCapacityInternal_28 : decode cJ8_ensureCapacityInternal 28 = .ok (.getfield 22, 3) := dk_180 0 22 (dk_at dksJ8_ensureCapacityInternal_1 4 rfl rfl)
theorem dJ8_ensureCapacityInternal_31 : decode cJ8_ensureCapacityInternal 31 = .ok (.ishl, 1) := dk_120 (dk_at dksJ8_ensureCapacityInternal_1 7 rfl rfl)
theorem dJ8_ensureCapacityInternal_32 : decode cJ8_ensureCapacityInternal 32 = .ok (.invokestatic 108, 3) := dk_184 0 108 (dk_at dksJ8_ensureCapacityInternal_1 8 rfl rfl)
theorem dJ8_ensureCapacityInternal_35 : decode cJ8_ensureCapacityInternal 35 = .ok (.putfield 15, 3) := dk_181 0 15 (dk_at dksJ8_ensureCapacityInternal_1 11 rfl rfl)
theorem dJ8_ensureCapacityInternal_38 : decode cJ8_ensureCapacityInternal 38 = .ok (.return_, 1) := dk_177 (dk_at dksJ8_ensureCapacityInternal_1 14 rfl rfl)
abbrev cJ8_newCapacity : ByteArray := prog_21_method_10_code
def yJ8_newCapacity : MethodName := ⟨RJ8, "newCapacity", "(I)I"⟩
def dkwJ8_newCapacity_2 : List UInt8 := [183, 0, 124, 191, 21, 5, 42, 180, 0, 22, 122, 172]
abbrev dktJ8_newCapacity_2 : List UInt8 := dkwJ8_newCapacity_2 ++ []
def dkwJ8_newCapacity_1 : List UInt8 := [180, 0, 22, 120, 96, 184, 0, 114, 54, 5, 21, 5, 18, 39, 160, 0, 13, 187, 0, 120, 89, 18, 122]
abbrev dktJ8_newCapacity_1 : List UInt8 := dkwJ8_newCapacity_1 ++ dktJ8_newCapacity_2
def dkwJ8_newCapacity_0 : List UInt8 := [42, 180, 0, 15, 190, 61, 27, 42, 180, 0, 22, 120, 62, 29, 28, 100, 54, 4, 28, 21, 4, 28, 5, 42]
abbrev dktJ8_newCapacity_0 : List UInt8 := dkwJ8_newCapacity_0 ++ dktJ8_newCapacity_1
theorem dksJ8_newCapacity_0 : cJ8_newCapacity.data.toList.drop 0 = dktJ8_newCapacity_0 := by decide +kernel
theorem dksJ8_newCapacity_1 : cJ8_newCapacity.data.toList.drop 24 = dktJ8_newCapacity_1 := dk_seg dksJ8_newCapacity_0 24 rfl rfl
theorem dksJ8_newCapacity_2 : cJ8_newCapacity.data.toList.drop 47 = dktJ8_newCapacity_2 := dk_seg dksJ8_newCapacity_1 23 rfl rfl
theorem dJ8_newCapacity_0 : decode cJ8_newCapacity 0 = .ok (.aload_n 0, 1) := dk_42 (dk_at dksJ8_newCapacity_0 0 rfl rfl)
theorem dJ8_newCapacity_1 : decode cJ8_newCapacity 1 = .ok (.getfield 15, 3) := dk_180 0 15 (dk_at dksJ8_newCapacity_0 1 rfl rfl)
theorem dJ8_newCapacity_4 : decode cJ8_newCapacity 4 = .ok (.arraylength, 1) := dk_190 (dk_at dksJ8_newCapacity_0 4 rfl rfl)
theorem dJ8_newCapacity_5 : decode cJ8_newCapacity 5 = .ok (.istore_n 2, 1) := dk_61 (dk_at dksJ8_newCapacity_0 5 rfl rfl)
theorem dJ8_newCapacity_6 : decode cJ8_newCapacity 6 = .ok (.iload_n 1, 1) := dk_27 (dk_at dksJ8_newCapacity_0 6 rfl rfl)
theorem dJ8_newCapacity_7 : decode cJ8_newCapacity 7 = .ok (.aload_n 0, 1) := dk_42 (dk_at dksJ8_newCapacity_0 7 rfl rfl)
theorem dJ8_newCapacity_8 : decode cJ8_newCapacity 8 = .ok (.getfield 22, 3) := dk_180 0 22 (dk_at dksJ8_newCapacity_0 8 rfl rfl)
theorem dJ8_newCapacity_11 : decode cJ8_newCapacity 11 = .ok (.ishl, 1) := dk_120 (dk_at dksJ8_newCapacity_0 11 rfl rfl)
theorem dJ8_newCapacity_12 : decode cJ8_newCapacity 12 = .ok (.istore_n 3, 1) := dk_62 (dk_at dksJ8_newCapacity_0 12 rfl rfl)
theorem dJ8_newCapacity_13 : decode cJ8_newCapacity 13 = .ok (.iload_n 3, 1) := dk_29 (dk_at dksJ8_newCapacity_0 13 rfl rfl)
theorem dJ8_newCapacity_14 : decode cJ8_newCapacity 14 = .ok (.iload_n 2, 1) := dk_28 (dk_at dksJ8_newCapacity_0 14 rfl rfl)
theorem dJ8_newCapacity_15 : decode cJ8_newCapacity 15 = .ok (.isub, 1) := dk_100 (dk_at dksJ8_newCapacity_0 15 rfl rfl)
theorem dJ8_newCapacity_16 : decode cJ8_newCapacity 16 = .ok (.istore 4, 2) := dk_54 4 (dk_at dksJ8_newCapacity_0 16 rfl rfl)
theorem dJ8_newCapacity_18 : decode cJ8_newCapacity 18 = .ok (.iload_n 2, 1) := dk_28 (dk_at dksJ8_newCapacity_0 18 rfl rfl)
theorem dJ8_newCapacity_19 : decode cJ8_newCapacity 19 = .ok (.iload 4, 2) := dk_21 4 (dk_at dksJ8_newCapacity_0 19 rfl rfl)
theorem dJ8_newCapacity_21 : decode cJ8_newCapacity 21 = .ok (.iload_n 2, 1) := dk_28 (dk_at dksJ8_newCapacity_0 21 rfl rfl)
theorem dJ8_newCapacity_22 : decode cJ8_newCapacity 22 = .ok (.iconst 2, 1) := dk_5 (dk_at dksJ8_newCapacity_0 22 rfl rfl)
theorem dJ8_newCapacity_23 : decode cJ8_newCapacity 23 = .ok (.aload_n 0, 1) := dk_42 (dk_at dksJ8_newCapacity_0 23 rfl rfl)
theorem dJ8_newCapacity_24 : decode cJ8_newCapacity 24 = .ok (.getfield 22, 3) := dk_180 0 22 (dk_at dksJ8_newCapacity_1 0 rfl rfl)
theorem dJ8_newCapacity_27 : decode cJ8_newCapacity 27 = .ok (.ishl, 1) := dk_120 (dk_at dksJ8_newCapacity_1 3 rfl rfl)
theorem dJ8_newCapacity_28 : decode cJ8_newCapacity 28 = .ok (.iadd, 1) := dk_96 (dk_at dksJ8_newCapacity_1 4 rfl rfl)
theorem dJ8_newCapacity_29 : decode cJ8_newCapacity 29 = .ok (.invokestatic 114, 3) := dk_184 0 114 (dk_at dksJ8_newCapacity_1 5 rfl rfl)
theorem dJ8_newCapacity_32 : decode cJ8_newCapacity 32 = .ok (.istore 5, 2) := dk_54 5 (dk_at dksJ8_newCapacity_1 8 rfl rfl)
theorem dJ8_newCapacity_34 : decode cJ8_newCapacity 34 = .ok (.iload 5, 2) := dk_21 5 (dk_at dksJ8_newCapacity_1 10 rfl rfl)
theorem dJ8_newCapacity_36 : decode cJ8_newCapacity 36 = .ok (.ldc 39, 2) := dk_18 39 (dk_at dksJ8_newCapacity_1 12 rfl rfl)
theorem dJ8_newCapacity_38 : decode cJ8_newCapacity 38 = .ok (.if_icmp .ne 13, 3) := dk_160 0 13 (dk_at dksJ8_newCapacity_1 14 rfl rfl)
theorem dJ8_newCapacity_41 : decode cJ8_newCapacity 41 = .ok (.new 120, 3) := dk_187 0 120 (dk_at dksJ8_newCapacity_1 17 rfl rfl)
theorem dJ8_newCapacity_44 : decode cJ8_newCapacity 44 = .ok (.dup, 1) := dk_89 (dk_at dksJ8_newCapacity_1 20 rfl rfl)
theorem dJ8_newCapacity_45 : decode cJ8_newCapacity 45 = .ok (.ldc 122, 2) := dk_18 122 (dk_at dksJ8_newCapacity_1 21 rfl rfl)
theorem dJ8_newCapacity_47 : decode cJ8_newCapacity 47 = .ok (.invokespecial 124, 3) := dk_183 0 124 (dk_at dksJ8_newCapacity_2 0 rfl rfl)
theorem dJ8_newCapacity_50 : decode cJ8_newCapacity 50 = .ok (.athrow, 1) := dk_191 (dk_at dksJ8_newCapacity_2 3 rfl rfl)
theorem dJ8_newCapacity_51 : decode cJ8_newCapacity 51 = .ok (.iload 5, 2) := dk_21 5 (dk_at dksJ8_newCapacity_2 4 rfl rfl)
theorem dJ8_newCapacity_53 : decode cJ8_newCapacity 53 = .ok (.aload_n 0, 1) := dk_42 (dk_at dksJ8_newCapacity_2 6 rfl rfl)
theorem dJ8_newCapacity_54 : decode cJ8_newCapacity 54 = .ok (.getfield 22, 3) := dk_180 0 22 (dk_at dksJ8_newCapacity_2 7 rfl rfl)
theorem dJ8_newCapacity_57 : decode cJ8_newCapacity 57 = .ok (.ishr, 1) := dk_122 (dk_at dksJ8_newCapacity_2 10 rfl rfl)
theorem dJ8_newCapacity_58 : decode cJ8_newCapacity 58 = .ok (.ireturn, 1) := dk_172 (dk_at dksJ8_newCapacity_2 11 rfl rfl)
abbrev cJ8_isLatin1 : ByteArray := prog_21_method_68_code
def yJ8_isLatin1 : MethodName := ⟨RJ8, "isLatin1", "()Z"⟩
def dkwJ8_isLatin1_0 : List UInt8 := [178, 0, 18, 153, 0, 14, 42, 180, 0, 22, 154, 0, 7, 4, 167, 0, 4, 3, 172]
abbrev dktJ8_isLatin1_0 : List UInt8 := dkwJ8_isLatin1_0 ++ []
theorem dksJ8_isLatin1_0 : cJ8_isLatin1.data.toList.drop 0 = dktJ8_isLatin1_0 := by decide +kernel
theorem dJ8_isLatin1_0 : decode cJ8_isLatin1 0 = .ok (.getstatic 18, 3) := dk_178 0 18 (dk_at dksJ8_isLatin1_0 0 rfl rfl)
theorem dJ8_isLatin1_3 : decode cJ8_isLatin1 3 = .ok (.ifCond .eq 14, 3) := dk_153 0 14 (dk_at dksJ8_isLatin1_0 3 rfl rfl)
theorem dJ8_isLatin1_6 : decode cJ8_isLatin1 6 = .ok (.aload_n 0, 1) := dk_42 (dk_at dksJ8_isLatin1_0 6 rfl rfl)
theorem dJ8_isLatin1_7 : decode cJ8_isLatin1 7 = .ok (.getfield 22, 3) := dk_180 0 22 (dk_at dksJ8_isLatin1_0 7 rfl rfl)
theorem dJ8_isLatin1_10 : decode cJ8_isLatin1 10 = .ok (.ifCond .ne 7, 3) := dk_154 0 7 (dk_at dksJ8_isLatin1_0 10 rfl rfl)
theorem dJ8_isLatin1_13 : decode cJ8_isLatin1 13 = .ok (.iconst 1, 1) := dk_4 (dk_at dksJ8_isLatin1_0 13 rfl rfl)
theorem dJ8_isLatin1_14 : decode cJ8_isLatin1 14 = .ok (.goto 4, 3) := dk_167 0 4 (dk_at dksJ8_isLatin1_0 14 rfl rfl)
theorem dJ8_isLatin1_17 : decode cJ8_isLatin1 17 = .ok (.iconst 0, 1) := dk_3 (dk_at dksJ8_isLatin1_0 17 rfl rfl)
theorem dJ8_isLatin1_18 : decode cJ8_isLatin1 18 = .ok (.ireturn, 1) := dk_172 (dk_at dksJ8_isLatin1_0 18 rfl rfl)
abbrev cJ8_putStringAt : ByteArray := prog_21_method_73_code
def yJ8_putStringAt : MethodName := ⟨RJ8, "putStringAt", "(ILjava/lang/String;)V"⟩
def dkwJ8_putStringAt_0 : List UInt8 := [42, 44, 182, 1, 141, 44, 42, 180, 0, 15, 27, 42, 180, 0, 22, 182, 1, 143, 177]
abbrev dktJ8_putStringAt_0 : List UInt8 := dkwJ8_putStringAt_0 ++ []
theorem dksJ8_putStringAt_0 : cJ8_putStringAt.data.toList.drop 0 = dktJ8_putStringAt_0 := by decide +kernel
theorem dJ8_putStringAt_0 : decode cJ8_putStringAt 0 = .ok (.aload_n 0, 1) := dk_42 (dk_at dksJ8_putStringAt_0 0 rfl rfl)
theorem dJ8_putStringAt_1 : decode cJ8_putStringAt 1 = .ok (.aload_n 2, 1) := dk_44 (dk_at dksJ8_putStringAt_0 1 rfl rfl)
theorem dJ8_putStringAt_2 : decode cJ8_putStringAt 2 = .ok (.invokevirtual 397, 3) := dk_182 1 141 (dk_at dksJ8_putStringAt_0 2 rfl rfl)
theorem dJ8_putStringAt_5 : decode cJ8_putStringAt 5 = .ok (.aload_n 2, 1) := dk_44 (dk_at dksJ8_putStringAt_0 5 rfl rfl)
theorem dJ8_putStringAt_6 : decode cJ8_putStringAt 6 = .ok (.aload_n 0, 1) := dk_42 (dk_at dksJ8_putStringAt_0 6 rfl rfl)
theorem dJ8_putStringAt_7 : decode cJ8_putStringAt 7 = .ok (.getfield 15, 3) := dk_180 0 15 (dk_at dksJ8_putStringAt_0 7 rfl rfl)
theorem dJ8_putStringAt_10 : decode cJ8_putStringAt 10 = .ok (.iload_n 1, 1) := dk_27 (dk_at dksJ8_putStringAt_0 10 rfl rfl)
theorem dJ8_putStringAt_11 : decode cJ8_putStringAt 11 = .ok (.aload_n 0, 1) := dk_42 (dk_at dksJ8_putStringAt_0 11 rfl rfl)
theorem dJ8_putStringAt_12 : decode cJ8_putStringAt 12 = .ok (.getfield 22, 3) := dk_180 0 22 (dk_at dksJ8_putStringAt_0 12 rfl rfl)
theorem dJ8_putStringAt_15 : decode cJ8_putStringAt 15 = .ok (.invokevirtual 399, 3) := dk_182 1 143 (dk_at dksJ8_putStringAt_0 15 rfl rfl)
theorem dJ8_putStringAt_18 : decode cJ8_putStringAt 18 = .ok (.return_, 1) := dk_177 (dk_at dksJ8_putStringAt_0 18 rfl rfl)
abbrev cJ8_inflateIfNeededFor : ByteArray := prog_21_method_71_code
def yJ8_inflateIfNeededFor : MethodName := ⟨RJ8, "inflateIfNeededFor", "(Ljava/lang/String;)V"⟩
def dkwJ8_inflateIfNeededFor_0 : List UInt8 := [178, 0, 18, 153, 0, 18, 42, 180, 0, 22, 43, 182, 0, 40, 159, 0, 7, 42, 182, 0, 195, 177]
abbrev dktJ8_inflateIfNeededFor_0 : List UInt8 := dkwJ8_inflateIfNeededFor_0 ++ []
theorem dksJ8_inflateIfNeededFor_0 : cJ8_inflateIfNeededFor.data.toList.drop 0 = dktJ8_inflateIfNeededFor_0 := by decide +kernel
theorem dJ8_inflateIfNeededFor_0 : decode cJ8_inflateIfNeededFor 0 = .ok (.getstatic 18, 3) := dk_178 0 18 (dk_at dksJ8_inflateIfNeededFor_0 0 rfl rfl)
theorem dJ8_inflateIfNeededFor_3 : decode cJ8_inflateIfNeededFor 3 = .ok (.ifCond .eq 18, 3) := dk_153 0 18 (dk_at dksJ8_inflateIfNeededFor_0 3 rfl rfl)
theorem dJ8_inflateIfNeededFor_6 : decode cJ8_inflateIfNeededFor 6 = .ok (.aload_n 0, 1) := dk_42 (dk_at dksJ8_inflateIfNeededFor_0 6 rfl rfl)
theorem dJ8_inflateIfNeededFor_7 : decode cJ8_inflateIfNeededFor 7 = .ok (.getfield 22, 3) := dk_180 0 22 (dk_at dksJ8_inflateIfNeededFor_0 7 rfl rfl)
theorem dJ8_inflateIfNeededFor_10 : decode cJ8_inflateIfNeededFor 10 = .ok (.aload_n 1, 1) := dk_43 (dk_at dksJ8_inflateIfNeededFor_0 10 rfl rfl)
theorem dJ8_inflateIfNeededFor_11 : decode cJ8_inflateIfNeededFor 11 = .ok (.invokevirtual 40, 3) := dk_182 0 40 (dk_at dksJ8_inflateIfNeededFor_0 11 rfl rfl)
theorem dJ8_inflateIfNeededFor_14 : decode cJ8_inflateIfNeededFor 14 = .ok (.if_icmp .eq 7, 3) := dk_159 0 7 (dk_at dksJ8_inflateIfNeededFor_0 14 rfl rfl)
theorem dJ8_inflateIfNeededFor_17 : decode cJ8_inflateIfNeededFor 17 = .ok (.aload_n 0, 1) := dk_42 (dk_at dksJ8_inflateIfNeededFor_0 17 rfl rfl)
theorem dJ8_inflateIfNeededFor_18 : decode cJ8_inflateIfNeededFor 18 = .ok (.invokevirtual 195, 3) := dk_182 0 195 (dk_at dksJ8_inflateIfNeededFor_0 18 rfl rfl)
theorem dJ8_inflateIfNeededFor_21 : decode cJ8_inflateIfNeededFor 21 = .ok (.return_, 1) := dk_177 (dk_at dksJ8_inflateIfNeededFor_0 21 rfl rfl)
abbrev cJ8_inflate : ByteArray := prog_21_method_11_code
def yJ8_inflate : MethodName := ⟨RJ8, "inflate", "()V"⟩
def dkwJ8_inflate_1 : List UInt8 := [42, 180, 0, 79, 184, 0, 125, 42, 43, 181, 0, 15, 42, 4, 181, 0, 22, 177]
abbrev dktJ8_inflate_1 : List UInt8 := dkwJ8_inflate_1 ++ []
def dkwJ8_inflate_0 : List UInt8 := [42, 182, 0, 83, 154, 0, 4, 177, 42, 180, 0, 15, 190, 184, 0, 26, 76, 42, 180, 0, 15, 3, 43, 3]
abbrev dktJ8_inflate_0 : List UInt8 := dkwJ8_inflate_0 ++ dktJ8_inflate_1
theorem dksJ8_inflate_0 : cJ8_inflate.data.toList.drop 0 = dktJ8_inflate_0 := by decide +kernel
theorem dksJ8_inflate_1 : cJ8_inflate.data.toList.drop 24 = dktJ8_inflate_1 := dk_seg dksJ8_inflate_0 24 rfl rfl
theorem dJ8_inflate_0 : decode cJ8_inflate 0 = .ok (.aload_n 0, 1) := dk_42 (dk_at dksJ8_inflate_0 0 rfl rfl)
theorem dJ8_inflate_1 : decode cJ8_inflate 1 = .ok (.invokevirtual 83, 3) := dk_182 0 83 (dk_at dksJ8_inflate_0 1 rfl rfl)
theorem dJ8_inflate_4 : decode cJ8_inflate 4 = .ok (.ifCond .ne 4, 3) := dk_154 0 4 (dk_at dksJ8_inflate_0 4 rfl rfl)
theorem dJ8_inflate_7 : decode cJ8_inflate 7 = .ok (.return_, 1) := dk_177 (dk_at dksJ8_inflate_0 7 rfl rfl)
theorem dJ8_inflate_8 : decode cJ8_inflate 8 = .ok (.aload_n 0, 1) := dk_42 (dk_at dksJ8_inflate_0 8 rfl rfl)
theorem dJ8_inflate_9 : decode cJ8_inflate 9 = .ok (.getfield 15, 3) := dk_180 0 15 (dk_at dksJ8_inflate_0 9 rfl rfl)
theorem dJ8_inflate_12 : decode cJ8_inflate 12 = .ok (.arraylength, 1) := dk_190 (dk_at dksJ8_inflate_0 12 rfl rfl)
theorem dJ8_inflate_13 : decode cJ8_inflate 13 = .ok (.invokestatic 26, 3) := dk_184 0 26 (dk_at dksJ8_inflate_0 13 rfl rfl)
theorem dJ8_inflate_16 : decode cJ8_inflate 16 = .ok (.astore_n 1, 1) := dk_76 (dk_at dksJ8_inflate_0 16 rfl rfl)
theorem dJ8_inflate_17 : decode cJ8_inflate 17 = .ok (.aload_n 0, 1) := dk_42 (dk_at dksJ8_inflate_0 17 rfl rfl)
theorem dJ8_inflate_18 : decode cJ8_inflate 18 = .ok (.getfield 15, 3) := dk_180 0 15 (dk_at dksJ8_inflate_0 18 rfl rfl)
theorem dJ8_inflate_21 : decode cJ8_inflate 21 = .ok (.iconst 0, 1) := dk_3 (dk_at dksJ8_inflate_0 21 rfl rfl)
theorem dJ8_inflate_22 : decode cJ8_inflate 22 = .ok (.aload_n 1, 1) := dk_43 (dk_at dksJ8_inflate_0 22 rfl rfl)
theorem dJ8_inflate_23 : decode cJ8_inflate 23 = .ok (.iconst 0, 1) := dk_3 (dk_at dksJ8_inflate_0 23 rfl rfl)
theorem dJ8_inflate_24 : decode cJ8_inflate 24 = .ok (.aload_n 0, 1) := dk_42 (dk_at dksJ8_inflate_1 0 rfl rfl)
theorem dJ8_inflate_25 : decode cJ8_inflate 25 = .ok (.getfield 79, 3) := dk_180 0 79 (dk_at dksJ8_inflate_1 1 rfl rfl)
theorem dJ8_inflate_28 : decode cJ8_inflate 28 = .ok (.invokestatic 125, 3) := dk_184 0 125 (dk_at dksJ8_inflate_1 4 rfl rfl)
theorem dJ8_inflate_31 : decode cJ8_inflate 31 = .ok (.aload_n 0, 1) := dk_42 (dk_at dksJ8_inflate_1 7 rfl rfl)
theorem dJ8_inflate_32 : decode cJ8_inflate 32 = .ok (.aload_n 1, 1) := dk_43 (dk_at dksJ8_inflate_1 8 rfl rfl)
theorem dJ8_inflate_33 : decode cJ8_inflate 33 = .ok (.putfield 15, 3) := dk_181 0 15 (dk_at dksJ8_inflate_1 9 rfl rfl)
theorem dJ8_inflate_36 : decode cJ8_inflate 36 = .ok (.aload_n 0, 1) := dk_42 (dk_at dksJ8_inflate_1 12 rfl rfl)
theorem dJ8_inflate_37 : decode cJ8_inflate 37 = .ok (.iconst 1, 1) := dk_4 (dk_at dksJ8_inflate_1 13 rfl rfl)
theorem dJ8_inflate_38 : decode cJ8_inflate 38 = .ok (.putfield 22, 3) := dk_181 0 22 (dk_at dksJ8_inflate_1 14 rfl rfl)
theorem dJ8_inflate_41 : decode cJ8_inflate 41 = .ok (.return_, 1) := dk_177 (dk_at dksJ8_inflate_1 17 rfl rfl)
abbrev cJ8_append_2 : ByteArray := prog_21_method_32_code
def yJ8_append_2 : MethodName := ⟨RJ8, "append", "(I)Ljava/lang/AbstractStringBuilder;"⟩
def dkwJ8_append_2_2 : List UInt8 := [42, 29, 181, 0, 79, 42, 176]
abbrev dktJ8_append_2_2 : List UInt8 := dkwJ8_append_2_2 ++ []
def dkwJ8_append_2_1 : List UInt8 := [27, 29, 42, 180, 0, 15, 184, 0, 248, 87, 167, 0, 14, 27, 28, 29, 42, 180, 0, 15, 184, 0, 251, 87]
abbrev dktJ8_append_2_1 : List UInt8 := dkwJ8_append_2_1 ++ dktJ8_append_2_2
def dkwJ8_append_2_0 : List UInt8 := [42, 180, 0, 79, 61, 28, 27, 184, 0, 245, 96, 62, 42, 29, 182, 0, 100, 42, 182, 0, 83, 153, 0, 16]
abbrev dktJ8_append_2_0 : List UInt8 := dkwJ8_append_2_0 ++ dktJ8_append_2_1
theorem dksJ8_append_2_0 : cJ8_append_2.data.toList.drop 0 = dktJ8_append_2_0 := by decide +kernel
theorem dksJ8_append_2_1 : cJ8_append_2.data.toList.drop 24 = dktJ8_append_2_1 := dk_seg dksJ8_append_2_0 24 rfl rfl
theorem dksJ8_append_2_2 : cJ8_append_2.data.toList.drop 48 = dktJ8_append_2_2 := dk_seg dksJ8_append_2_1 24 rfl rfl
theorem dJ8_append_2_0 : decode cJ8_append_2 0 = .ok (.aload_n 0, 1) := dk_42 (dk_at dksJ8_append_2_0 0 rfl rfl)
theorem dJ8_append_2_1 : decode cJ8_append_2 1 = .ok (.getfield 79, 3) := dk_180 0 79 (dk_at dksJ8_append_2_0 1 rfl rfl)
theorem dJ8_append_2_4 : decode cJ8_append_2 4 = .ok (.istore_n 2, 1) := dk_61 (dk_at dksJ8_append_2_0 4 rfl rfl)
theorem dJ8_append_2_5 : decode cJ8_append_2 5 = .ok (.iload_n 2, 1) := dk_28 (dk_at dksJ8_append_2_0 5 rfl rfl)
theorem dJ8_append_2_6 : decode cJ8_append_2 6 = .ok (.iload_n 1, 1) := dk_27 (dk_at dksJ8_append_2_0 6 rfl rfl)
theorem dJ8_append_2_7 : decode cJ8_append_2 7 = .ok (.invokestatic 245, 3) := dk_184 0 245 (dk_at dksJ8_append_2_0 7 rfl rfl)
theorem dJ8_append_2_10 : decode cJ8_append_2 10 = .ok (.iadd, 1) := dk_96 (dk_at dksJ8_append_2_0 10 rfl rfl)
theorem dJ8_append_2_11 : decode cJ8_append_2 11 = .ok (.istore_n 3, 1) := dk_62 (dk_at dksJ8_append_2_0 11 rfl rfl)
theorem dJ8_append_2_12 : decode cJ8_append_2 12 = .ok (.aload_n 0, 1) := dk_42 (dk_at dksJ8_append_2_0 12 rfl rfl)
theorem dJ8_append_2_13 : decode cJ8_append_2 13 = .ok (.iload_n 3, 1) := dk_29 (dk_at dksJ8_append_2_0 13 rfl rfl)
theorem dJ8_append_2_14 : decode cJ8_append_2 14 = .ok (.invokevirtual 100, 3) := dk_182 0 100 (dk_at dksJ8_append_2_0 14 rfl rfl)
theorem dJ8_append_2_17 : decode cJ8_append_2 17 = .ok (.aload_n 0, 1) := dk_42 (dk_at dksJ8_append_2_0 17 rfl rfl)
theorem dJ8_append_2_18 : decode cJ8_append_2 18 = .ok (.invokevirtual 83, 3) := dk_182 0 83 (dk_at dksJ8_append_2_0 18 rfl rfl)
theorem dJ8_append_2_21 : decode cJ8_append_2 21 = .ok (.ifCond .eq 16, 3) := dk_153 0 16 (dk_at dksJ8_append_2_0 21 rfl rfl)
theorem dJ8_append_2_24 : decode cJ8_append_2 24 = .ok (.iload_n 1, 1) := dk_27 (dk_at dksJ8_append_2_1 0 rfl rfl)
theorem dJ8_append_2_25 : decode cJ8_append_2 25 = .ok (.iload_n 3, 1) := dk_29 (dk_at dksJ8_append_2_1 1 rfl rfl)
theorem dJ8_append_2_26 : decode cJ8_append_2 26 = .ok (.aload_n 0, 1) := dk_42 (dk_at dksJ8_append_2_1 2 rfl rfl)
theorem dJ8_append_2_27 : decode cJ8_append_2 27 = .ok (.getfield 15, 3) := dk_180 0 15 (dk_at dksJ8_append_2_1 3 rfl rfl)
theorem dJ8_append_2_30 : decode cJ8_append_2 30 = .ok (.invokestatic 248, 3) := dk_184 0 248 (dk_at dksJ8_append_2_1 6 rfl rfl)
theorem dJ8_append_2_33 : decode cJ8_append_2 33 = .ok (.pop, 1) := dk_87 (dk_at dksJ8_append_2_1 9 rfl rfl)
theorem dJ8_append_2_34 : decode cJ8_append_2 34 = .ok (.goto 14, 3) := dk_167 0 14 (dk_at dksJ8_append_2_1 10 rfl rfl)
theorem dJ8_append_2_37 : decode cJ8_append_2 37 = .ok (.iload_n 1, 1) := dk_27 (dk_at dksJ8_append_2_1 13 rfl rfl)
theorem dJ8_append_2_38 : decode cJ8_append_2 38 = .ok (.iload_n 2, 1) := dk_28 (dk_at dksJ8_append_2_1 14 rfl rfl)
theorem dJ8_append_2_39 : decode cJ8_append_2 39 = .ok (.iload_n 3, 1) := dk_29 (dk_at dksJ8_append_2_1 15 rfl rfl)
theorem dJ8_append_2_40 : decode cJ8_append_2 40 = .ok (.aload_n 0, 1) := dk_42 (dk_at dksJ8_append_2_1 16 rfl rfl)
theorem dJ8_append_2_41 : decode cJ8_append_2 41 = .ok (.getfield 15, 3) := dk_180 0 15 (dk_at dksJ8_append_2_1 17 rfl rfl)
theorem dJ8_append_2_44 : decode cJ8_append_2 44 = .ok (.invokestatic 251, 3) := dk_184 0 251 (dk_at dksJ8_append_2_1 20 rfl rfl)
theorem dJ8_append_2_47 : decode cJ8_append_2 47 = .ok (.pop, 1) := dk_87 (dk_at dksJ8_append_2_1 23 rfl rfl)
theorem dJ8_append_2_48 : decode cJ8_append_2 48 = .ok (.aload_n 0, 1) := dk_42 (dk_at dksJ8_append_2_2 0 rfl rfl)
theorem dJ8_append_2_49 : decode cJ8_append_2 49 = .ok (.iload_n 3, 1) := dk_29 (dk_at dksJ8_append_2_2 1 rfl rfl)
theorem dJ8_append_2_50 : decode cJ8_append_2 50 = .ok (.putfield 79, 3) := dk_181 0 79 (dk_at dksJ8_append_2_2 2 rfl rfl)
theorem dJ8_append_2_53 : decode cJ8_append_2 53 = .ok (.aload_n 0, 1) := dk_42 (dk_at dksJ8_append_2_2 5 rfl rfl)
theorem dJ8_append_2_54 : decode cJ8_append_2 54 = .ok (.areturn, 1) := dk_176 (dk_at dksJ8_append_2_2 6 rfl rfl)
abbrev cJ8_getValue : ByteArray := prog_21_method_64_code
def yJ8_getValue : MethodName := ⟨RJ8, "getValue", "()[B"⟩
theorem dJ8_getValue_0 : decode cJ8_getValue 0 = .ok (.aload_n 0, 1) := by decide +kernel
theorem dJ8_getValue_1 : decode cJ8_getValue 1 = .ok (.getfield 15, 3) := by decide +kernel
theorem dJ8_getValue_4 : decode cJ8_getValue 4 = .ok (.areturn, 1) := by decide +kernel
abbrev cJ8_length : ByteArray := prog_21_method_6_code
def yJ8_length : MethodName := ⟨RJ8, "length", "()I"⟩
theorem dJ8_length_0 : decode cJ8_length 0 = .ok (.aload_n 0, 1) := by decide +kernel
theorem dJ8_length_1 : decode cJ8_length 1 = .ok (.getfield 79, 3) := by decide +kernel
theorem dJ8_length_4 : decode cJ8_length 4 = .ok (.ireturn, 1) := by decide +kernel
abbrev cJ8_append_3 : ByteArray := prog_21_method_31_code
def yJ8_append_3 : MethodName := ⟨RJ8, "append", "(C)Ljava/lang/AbstractStringBuilder;"⟩
def dkwJ8_append_3_3 : List UInt8 := [181, 0, 79, 27, 184, 0, 197, 42, 176]
abbrev dktJ8_append_3_3 : List UInt8 := dkwJ8_append_3_3 ++ []
def dkwJ8_append_3_2 : List UInt8 := [182, 0, 83, 153, 0, 7, 42, 182, 0, 195, 42, 180, 0, 15, 42, 89, 180, 0, 79, 90, 4, 96]
abbrev dktJ8_append_3_2 : List UInt8 := dkwJ8_append_3_2 ++ dktJ8_append_3_3
def dkwJ8_append_3_1 : List UInt8 := [42, 180, 0, 15, 42, 89, 180, 0, 79, 90, 4, 96, 181, 0, 79, 27, 145, 84, 167, 0, 33, 42]
abbrev dktJ8_append_3_1 : List UInt8 := dkwJ8_append_3_1 ++ dktJ8_append_3_2
def dkwJ8_append_3_0 : List UInt8 := [42, 42, 180, 0, 79, 4, 96, 182, 0, 100, 42, 182, 0, 83, 153, 0, 31, 27, 184, 0, 191, 153, 0, 24]
abbrev dktJ8_append_3_0 : List UInt8 := dkwJ8_append_3_0 ++ dktJ8_append_3_1
theorem dksJ8_append_3_0 : cJ8_append_3.data.toList.drop 0 = dktJ8_append_3_0 := by decide +kernel
theorem dksJ8_append_3_1 : cJ8_append_3.data.toList.drop 24 = dktJ8_append_3_1 := dk_seg dksJ8_append_3_0 24 rfl rfl
theorem dksJ8_append_3_2 : cJ8_append_3.data.toList.drop 46 = dktJ8_append_3_2 := dk_seg dksJ8_append_3_1 22 rfl rfl
theorem dksJ8_append_3_3 : cJ8_append_3.data.toList.drop 68 = dktJ8_append_3_3 := dk_seg dksJ8_append_3_2 22 rfl rfl
theorem dJ8_append_3_0 : decode cJ8_append_3 0 = .ok (.aload_n 0, 1) := dk_42 (dk_at dksJ8_append_3_0 0 rfl rfl)
theorem dJ8_append_3_1 : decode cJ8_append_3 1 = .ok (.aload_n 0, 1) := dk_42 (dk_at dksJ8_append_3_0 1 rfl rfl)
theorem dJ8_append_3_2 : decode cJ8_append_3 2 = .ok (.getfield 79, 3) := dk_180 0 79 (dk_at dksJ8_append_3_0 2 rfl rfl)
theorem dJ8_append_3_5 : decode cJ8_append_3 5 = .ok (.iconst 1, 1) := dk_4 (dk_at dksJ8_append_3_0 5 rfl rfl)
theorem dJ8_append_3_6 : decode cJ8_append_3 6 = .ok (.iadd, 1) := dk_96 (dk_at dksJ8_append_3_0 6 rfl rfl)
theorem dJ8_append_3_7 : decode cJ8_append_3 7 = .ok (.invokevirtual 100, 3) := dk_182 0 100 (dk_at dksJ8_append_3_0 7 rfl rfl)
theorem dJ8_append_3_10 : decode cJ8_append_3 10 = .ok (.aload_n 0, 1) := dk_42 (dk_at dksJ8_append_3_0 10 rfl rfl)
theorem dJ8_append_3_11 : decode cJ8_append_3 11 = .ok (.invokevirtual 83, 3) := dk_182 0 83 (dk_at dksJ8_append_3_0 11 rfl rfl)
theorem dJ8_append_3_14 : decode cJ8_append_3 14 = .ok (.ifCond .eq 31, 3) := dk_153 0 31 (dk_at dksJ8_append_3_0 14 rfl rfl)
theorem dJ8_append_3_17 : decode cJ8_append_3 17 = .ok (.iload_n 1, 1) := dk_27 (dk_at dksJ8_append_3_0 17 rfl rfl)
theorem dJ8_append_3_18 : decode cJ8_append_3 18 = .ok (.invokestatic 191, 3) := dk_184 0 191 (dk_at dksJ8_append_3_0 18 rfl rfl)
theorem dJ8_append_3_21 : decode cJ8_append_3 21 = .ok (.ifCond .eq 24, 3) := dk_153 0 24 (dk_at dksJ8_append_3_0 21 rfl rfl)
theorem dJ8_append_3_24 : decode cJ8_append_3 24 = .ok (.aload_n 0, 1) := dk_42 (dk_at dksJ8_append_3_1 0 rfl rfl)
theorem dJ8_append_3_25 : decode cJ8_append_3 25 = .ok (.getfield 15, 3) := dk_180 0 15 (dk_at dksJ8_append_3_1 1 rfl rfl)
theorem dJ8_append_3_28 : decode cJ8_append_3 28 = .ok (.aload_n 0, 1) := dk_42 (dk_at dksJ8_append_3_1 4 rfl rfl)
theorem dJ8_append_3_29 : decode cJ8_append_3 29 = .ok (.dup, 1) := dk_89 (dk_at dksJ8_append_3_1 5 rfl rfl)
theorem dJ8_append_3_30 : decode cJ8_append_3 30 = .ok (.getfield 79, 3) := dk_180 0 79 (dk_at dksJ8_append_3_1 6 rfl rfl)
theorem dJ8_append_3_33 : decode cJ8_append_3 33 = .ok (.dup_x1, 1) := dk_90 (dk_at dksJ8_append_3_1 9 rfl rfl)
theorem dJ8_append_3_34 : decode cJ8_append_3 34 = .ok (.iconst 1, 1) := dk_4 (dk_at dksJ8_append_3_1 10 rfl rfl)
theorem dJ8_append_3_35 : decode cJ8_append_3 35 = .ok (.iadd, 1) := dk_96 (dk_at dksJ8_append_3_1 11 rfl rfl)
theorem dJ8_append_3_36 : decode cJ8_append_3 36 = .ok (.putfield 79, 3) := dk_181 0 79 (dk_at dksJ8_append_3_1 12 rfl rfl)
theorem dJ8_append_3_39 : decode cJ8_append_3 39 = .ok (.iload_n 1, 1) := dk_27 (dk_at dksJ8_append_3_1 15 rfl rfl)
theorem dJ8_append_3_40 : decode cJ8_append_3 40 = .ok (.i2b, 1) := dk_145 (dk_at dksJ8_append_3_1 16 rfl rfl)
theorem dJ8_append_3_41 : decode cJ8_append_3 41 = .ok (.bastore, 1) := dk_84 (dk_at dksJ8_append_3_1 17 rfl rfl)
theorem dJ8_append_3_42 : decode cJ8_append_3 42 = .ok (.goto 33, 3) := dk_167 0 33 (dk_at dksJ8_append_3_1 18 rfl rfl)
theorem dJ8_append_3_45 : decode cJ8_append_3 45 = .ok (.aload_n 0, 1) := dk_42 (dk_at dksJ8_append_3_1 21 rfl rfl)
theorem dJ8_append_3_46 : decode cJ8_append_3 46 = .ok (.invokevirtual 83, 3) := dk_182 0 83 (dk_at dksJ8_append_3_2 0 rfl rfl)
theorem dJ8_append_3_49 : decode cJ8_append_3 49 = .ok (.ifCond .eq 7, 3) := dk_153 0 7 (dk_at dksJ8_append_3_2 3 rfl rfl)
theorem dJ8_append_3_52 : decode cJ8_append_3 52 = .ok (.aload_n 0, 1) := dk_42 (dk_at dksJ8_append_3_2 6 rfl rfl)
theorem dJ8_append_3_53 : decode cJ8_append_3 53 = .ok (.invokevirtual 195, 3) := dk_182 0 195 (dk_at dksJ8_append_3_2 7 rfl rfl)
theorem dJ8_append_3_56 : decode cJ8_append_3 56 = .ok (.aload_n 0, 1) := dk_42 (dk_at dksJ8_append_3_2 10 rfl rfl)
theorem dJ8_append_3_57 : decode cJ8_append_3 57 = .ok (.getfield 15, 3) := dk_180 0 15 (dk_at dksJ8_append_3_2 11 rfl rfl)
theorem dJ8_append_3_60 : decode cJ8_append_3 60 = .ok (.aload_n 0, 1) := dk_42 (dk_at dksJ8_append_3_2 14 rfl rfl)
theorem dJ8_append_3_61 : decode cJ8_append_3 61 = .ok (.dup, 1) := dk_89 (dk_at dksJ8_append_3_2 15 rfl rfl)
theorem dJ8_append_3_62 : decode cJ8_append_3 62 = .ok (.getfield 79, 3) := dk_180 0 79 (dk_at dksJ8_append_3_2 16 rfl rfl)
theorem dJ8_append_3_65 : decode cJ8_append_3 65 = .ok (.dup_x1, 1) := dk_90 (dk_at dksJ8_append_3_2 19 rfl rfl)
theorem dJ8_append_3_66 : decode cJ8_append_3 66 = .ok (.iconst 1, 1) := dk_4 (dk_at dksJ8_append_3_2 20 rfl rfl)
theorem dJ8_append_3_67 : decode cJ8_append_3 67 = .ok (.iadd, 1) := dk_96 (dk_at dksJ8_append_3_2 21 rfl rfl)
theorem dJ8_append_3_68 : decode cJ8_append_3 68 = .ok (.putfield 79, 3) := dk_181 0 79 (dk_at dksJ8_append_3_3 0 rfl rfl)
theorem dJ8_append_3_71 : decode cJ8_append_3 71 = .ok (.iload_n 1, 1) := dk_27 (dk_at dksJ8_append_3_3 3 rfl rfl)
theorem dJ8_append_3_72 : decode cJ8_append_3 72 = .ok (.invokestatic 197, 3) := dk_184 0 197 (dk_at dksJ8_append_3_3 4 rfl rfl)
theorem dJ8_append_3_75 : decode cJ8_append_3 75 = .ok (.aload_n 0, 1) := dk_42 (dk_at dksJ8_append_3_3 7 rfl rfl)
theorem dJ8_append_3_76 : decode cJ8_append_3 76 = .ok (.areturn, 1) := dk_176 (dk_at dksJ8_append_3_3 8 rfl rfl)
theorem q57 : (Jvm.Cond.initialized "java/lang/AbstractStringBuilder") ∈ lw_all := lw_g (lw_at lw_m1 10 rfl) rfl
theorem q209 : (Jvm.Cond.instanceMethod ({ cls := "java/lang/AbstractStringBuilder", name := "<init>", desc := "(I)V" } : Jvm.MethodName)) ∈ lw_all := lw_g (lw_at lw_m1 162 rfl) rfl
theorem q210 : (Jvm.Cond.code ({ cls := "java/lang/AbstractStringBuilder", name := "<init>", desc := "(I)V" } : Jvm.MethodName) prog_21_method_2_code (2 : Nat) (Option.none : Option Jvm.ClassFile.FieldType)) ∈ lw_all := lw_g (lw_at lw_m1 163 rfl) rfl
theorem q211 : (Jvm.Cond.methodLink "java/lang/AbstractStringBuilder" (3 : Nat) ({ cls := "java/lang/Object", name := "<init>", desc := "()V" } : Jvm.MethodName)) ∈ lw_all := lw_g (lw_at lw_m1 164 rfl) rfl
theorem q212 : (Jvm.Cond.fieldLink "java/lang/AbstractStringBuilder" (18 : Nat) "java/lang/String" "COMPACT_STRINGS" "Z") ∈ lw_all := lw_g (lw_at lw_m1 165 rfl) rfl
theorem q214 : (Jvm.Cond.methodLink "java/lang/AbstractStringBuilder" (26 : Nat) ({ cls := "java/lang/StringUTF16", name := "newBytesFor", desc := "(I)[B" } : Jvm.MethodName)) ∈ lw_all := lw_g (lw_at lw_m1 167 rfl) rfl
theorem q221 : (Jvm.Cond.fieldLink "java/lang/AbstractStringBuilder" (15 : Nat) "java/lang/AbstractStringBuilder" "value" "[B") ∈ lw_all := lw_g (lw_at lw_m1 174 rfl) rfl
theorem q222 : (Jvm.Cond.fieldLink "java/lang/AbstractStringBuilder" (22 : Nat) "java/lang/AbstractStringBuilder" "coder" "B") ∈ lw_all := lw_g (lw_at lw_m1 175 rfl) rfl
theorem q224 : (Jvm.Cond.fieldLink "java/lang/AbstractStringBuilder" (79 : Nat) "java/lang/AbstractStringBuilder" "count" "I") ∈ lw_all := lw_g (lw_at lw_m1 177 rfl) rfl
theorem q226 : (Jvm.Cond.soleField "java/lang/AbstractStringBuilder" "value") ∈ lw_all := lw_g (lw_at lw_m1 179 rfl) rfl
theorem q228 : (Jvm.Cond.soleField "java/lang/AbstractStringBuilder" "coder") ∈ lw_all := lw_g (lw_at lw_m1 181 rfl) rfl
theorem q230 : (Jvm.Cond.soleField "java/lang/AbstractStringBuilder" "maybeLatin1") ∈ lw_all := lw_g (lw_at lw_m1 183 rfl) rfl
theorem q232 : (Jvm.Cond.soleField "java/lang/AbstractStringBuilder" "count") ∈ lw_all := lw_g (lw_at lw_m1 185 rfl) rfl
theorem q241 : (Jvm.Cond.instanceMethod ({ cls := "java/lang/AbstractStringBuilder", name := "append", desc := "(Ljava/lang/String;)Ljava/lang/AbstractStringBuilder;" } : Jvm.MethodName)) ∈ lw_all := lw_g (lw_at lw_m1 194 rfl) rfl
theorem q242 : (Jvm.Cond.code ({ cls := "java/lang/AbstractStringBuilder", name := "append", desc := "(Ljava/lang/String;)Ljava/lang/AbstractStringBuilder;" } : Jvm.MethodName) prog_21_method_22_code (3 : Nat) (Option.some (Jvm.ClassFile.FieldType.object "java/lang/AbstractStringBuilder"))) ∈ lw_all := lw_g (lw_at lw_m1 195 rfl) rfl
theorem q243 : (Jvm.Cond.methodLink "java/lang/AbstractStringBuilder" (204 : Nat) ({ cls := "java/lang/AbstractStringBuilder", name := "appendNull", desc := "()Ljava/lang/AbstractStringBuilder;" } : Jvm.MethodName)) ∈ lw_all := lw_g (lw_at lw_m1 196 rfl) rfl
theorem q244 : (Jvm.Cond.privateMethod ({ cls := "java/lang/AbstractStringBuilder", name := "appendNull", desc := "()Ljava/lang/AbstractStringBuilder;" } : Jvm.MethodName)) ∈ lw_tbl := lw_at lw_m1 197 rfl
theorem q245 : (Jvm.Cond.instanceMethod ({ cls := "java/lang/AbstractStringBuilder", name := "appendNull", desc := "()Ljava/lang/AbstractStringBuilder;" } : Jvm.MethodName)) ∈ lw_all := lw_g (lw_at lw_m1 198 rfl) rfl
theorem q246 : (Jvm.Cond.code ({ cls := "java/lang/AbstractStringBuilder", name := "appendNull", desc := "()Ljava/lang/AbstractStringBuilder;" } : Jvm.MethodName) prog_21_method_26_code (3 : Nat) (Option.some (Jvm.ClassFile.FieldType.object "java/lang/AbstractStringBuilder"))) ∈ lw_all := lw_g (lw_at lw_m1 199 rfl) rfl
theorem q247 : (Jvm.Cond.methodLink "java/lang/AbstractStringBuilder" (100 : Nat) ({ cls := "java/lang/AbstractStringBuilder", name := "ensureCapacityInternal", desc := "(I)V" } : Jvm.MethodName)) ∈ lw_all := lw_g (lw_at lw_m1 200 rfl) rfl
theorem q248 : (Jvm.Cond.privateMethod ({ cls := "java/lang/AbstractStringBuilder", name := "ensureCapacityInternal", desc := "(I)V" } : Jvm.MethodName)) ∈ lw_tbl := lw_at lw_m1 201 rfl
theorem q249 : (Jvm.Cond.instanceMethod ({ cls := "java/lang/AbstractStringBuilder", name := "ensureCapacityInternal", desc := "(I)V" } : Jvm.MethodName)) ∈ lw_all := lw_g (lw_at lw_m1 202 rfl) rfl
theorem q250 : (Jvm.Cond.code ({ cls := "java/lang/AbstractStringBuilder", name := "ensureCapacityInternal", desc := "(I)V" } : Jvm.MethodName) prog_21_method_9_code (3 : Nat) (Option.none : Option Jvm.ClassFile.FieldType)) ∈ lw_all := lw_g (lw_at lw_m1 203 rfl) rfl
theorem q251 : (Jvm.Cond.methodLink "java/lang/AbstractStringBuilder" (104 : Nat) ({ cls := "java/lang/AbstractStringBuilder", name := "newCapacity", desc := "(I)I" } : Jvm.MethodName)) ∈ lw_all := lw_g (lw_at lw_m1 204 rfl) rfl
theorem q252 : (Jvm.Cond.privateMethod ({ cls := "java/lang/AbstractStringBuilder", name := "newCapacity", desc := "(I)I" } : Jvm.MethodName)) ∈ lw_tbl := lw_at lw_m1 205 rfl
theorem q253 : (Jvm.Cond.instanceMethod ({ cls := "java/lang/AbstractStringBuilder", name := "newCapacity", desc := "(I)I" } : Jvm.MethodName)) ∈ lw_all := lw_g (lw_at lw_m1 206 rfl) rfl
theorem q254 : (Jvm.Cond.code ({ cls := "java/lang/AbstractStringBuilder", name := "newCapacity", desc := "(I)I" } : Jvm.MethodName) prog_21_method_10_code (6 : Nat) (Option.some Jvm.ClassFile.FieldType.int)) ∈ lw_all := lw_g (lw_at lw_m1 207 rfl) rfl
theorem q255 : (Jvm.Cond.methodLink "java/lang/AbstractStringBuilder" (114 : Nat) ({ cls := "jdk/internal/util/ArraysSupport", name := "newLength", desc := "(III)I" } : Jvm.MethodName)) ∈ lw_all := lw_g (lw_at lw_m1 208 rfl) rfl
theorem q265 : (Jvm.Cond.constant "java/lang/AbstractStringBuilder" (39 : Nat) (2147483647 : Int32)) ∈ lw_all := lw_g (lw_at lw_m1 218 rfl) rfl
theorem q266 : (Jvm.Cond.methodLink "java/lang/AbstractStringBuilder" (108 : Nat) ({ cls := "java/util/Arrays", name := "copyOf", desc := "([BI)[B" } : Jvm.MethodName)) ∈ lw_all := lw_g (lw_at lw_m1 219 rfl) rfl
theorem q282 : (Jvm.Cond.methodLink "java/lang/AbstractStringBuilder" (83 : Nat) ({ cls := "java/lang/AbstractStringBuilder", name := "isLatin1", desc := "()Z" } : Jvm.MethodName)) ∈ lw_all := lw_g (lw_at lw_m1 235 rfl) rfl
theorem q283 : (Jvm.Cond.instanceMethod ({ cls := "java/lang/AbstractStringBuilder", name := "isLatin1", desc := "()Z" } : Jvm.MethodName)) ∈ lw_all := lw_g (lw_at lw_m1 236 rfl) rfl
theorem q284 : (Jvm.Cond.sameMethod "java/lang/AbstractStringBuilder" "java/lang/AbstractStringBuilder" "isLatin1" "()Z") ∈ lw_all := lw_g (lw_at lw_m1 237 rfl) rfl
theorem q286 : (Jvm.Cond.code ({ cls := "java/lang/AbstractStringBuilder", name := "isLatin1", desc := "()Z" } : Jvm.MethodName) prog_21_method_68_code (1 : Nat) (Option.some Jvm.ClassFile.FieldType.boolean)) ∈ lw_all := lw_g (lw_at lw_m1 239 rfl) rfl
theorem q287 : (Jvm.Cond.methodLink "java/lang/AbstractStringBuilder" (226 : Nat) ({ cls := "java/lang/StringUTF16", name := "putCharsAt", desc := "([BICCCC)I" } : Jvm.MethodName)) ∈ lw_all := lw_g (lw_at lw_m2 0 rfl) rfl
theorem q313 : (Jvm.Cond.methodLink "java/lang/AbstractStringBuilder" (32 : Nat) ({ cls := "java/lang/String", name := "length", desc := "()I" } : Jvm.MethodName)) ∈ lw_all := lw_g (lw_at lw_m2 26 rfl) rfl
theorem q322 : (Jvm.Cond.methodLink "java/lang/AbstractStringBuilder" (208 : Nat) ({ cls := "java/lang/AbstractStringBuilder", name := "putStringAt", desc := "(ILjava/lang/String;)V" } : Jvm.MethodName)) ∈ lw_all := lw_g (lw_at lw_m2 35 rfl) rfl
theorem q323 : (Jvm.Cond.privateMethod ({ cls := "java/lang/AbstractStringBuilder", name := "putStringAt", desc := "(ILjava/lang/String;)V" } : Jvm.MethodName)) ∈ lw_tbl := lw_at lw_m2 36 rfl
theorem q324 : (Jvm.Cond.instanceMethod ({ cls := "java/lang/AbstractStringBuilder", name := "putStringAt", desc := "(ILjava/lang/String;)V" } : Jvm.MethodName)) ∈ lw_all := lw_g (lw_at lw_m2 37 rfl) rfl
theorem q325 : (Jvm.Cond.code ({ cls := "java/lang/AbstractStringBuilder", name := "putStringAt", desc := "(ILjava/lang/String;)V" } : Jvm.MethodName) prog_21_method_73_code (3 : Nat) (Option.none : Option Jvm.ClassFile.FieldType)) ∈ lw_all := lw_g (lw_at lw_m2 38 rfl) rfl
theorem q326 : (Jvm.Cond.methodLink "java/lang/AbstractStringBuilder" (397 : Nat) ({ cls := "java/lang/AbstractStringBuilder", name := "inflateIfNeededFor", desc := "(Ljava/lang/String;)V" } : Jvm.MethodName)) ∈ lw_all := lw_g (lw_at lw_m2 39 rfl) rfl
theorem q327 : (Jvm.Cond.privateMethod ({ cls := "java/lang/AbstractStringBuilder", name := "inflateIfNeededFor", desc := "(Ljava/lang/String;)V" } : Jvm.MethodName)) ∈ lw_tbl := lw_at lw_m2 40 rfl
theorem q328 : (Jvm.Cond.instanceMethod ({ cls := "java/lang/AbstractStringBuilder", name := "inflateIfNeededFor", desc := "(Ljava/lang/String;)V" } : Jvm.MethodName)) ∈ lw_all := lw_g (lw_at lw_m2 41 rfl) rfl
theorem q329 : (Jvm.Cond.code ({ cls := "java/lang/AbstractStringBuilder", name := "inflateIfNeededFor", desc := "(Ljava/lang/String;)V" } : Jvm.MethodName) prog_21_method_71_code (2 : Nat) (Option.none : Option Jvm.ClassFile.FieldType)) ∈ lw_all := lw_g (lw_at lw_m2 42 rfl) rfl
theorem q330 : (Jvm.Cond.methodLink "java/lang/AbstractStringBuilder" (40 : Nat) ({ cls := "java/lang/String", name := "coder", desc := "()B" } : Jvm.MethodName)) ∈ lw_all := lw_g (lw_at lw_m2 43 rfl) rfl
theorem q331 : (Jvm.Cond.methodLink "java/lang/AbstractStringBuilder" (195 : Nat) ({ cls := "java/lang/AbstractStringBuilder", name := "inflate", desc := "()V" } : Jvm.MethodName)) ∈ lw_all := lw_g (lw_at lw_m2 44 rfl) rfl
theorem q332 : (Jvm.Cond.privateMethod ({ cls := "java/lang/AbstractStringBuilder", name := "inflate", desc := "()V" } : Jvm.MethodName)) ∈ lw_tbl := lw_at lw_m2 45 rfl
theorem q333 : (Jvm.Cond.instanceMethod ({ cls := "java/lang/AbstractStringBuilder", name := "inflate", desc := "()V" } : Jvm.MethodName)) ∈ lw_all := lw_g (lw_at lw_m2 46 rfl) rfl
theorem q334 : (Jvm.Cond.code ({ cls := "java/lang/AbstractStringBuilder", name := "inflate", desc := "()V" } : Jvm.MethodName) prog_21_method_11_code (2 : Nat) (Option.none : Option Jvm.ClassFile.FieldType)) ∈ lw_all := lw_g (lw_at lw_m2 47 rfl) rfl
theorem q335 : (Jvm.Cond.methodLink "java/lang/AbstractStringBuilder" (125 : Nat) ({ cls := "java/lang/StringLatin1", name := "inflate", desc := "([BI[BII)V" } : Jvm.MethodName)) ∈ lw_all := lw_g (lw_at lw_m2 48 rfl) rfl
theorem q350 : (Jvm.Cond.methodLink "java/lang/AbstractStringBuilder" (399 : Nat) ({ cls := "java/lang/String", name := "getBytes", desc := "([BIB)V" } : Jvm.MethodName)) ∈ lw_all := lw_g (lw_at lw_m2 63 rfl) rfl
theorem q361 : (Jvm.Cond.instanceMethod ({ cls := "java/lang/AbstractStringBuilder", name := "append", desc := "(I)Ljava/lang/AbstractStringBuilder;" } : Jvm.MethodName)) ∈ lw_all := lw_g (lw_at lw_m2 74 rfl) rfl
theorem q362 : (Jvm.Cond.code ({ cls := "java/lang/AbstractStringBuilder", name := "append", desc := "(I)Ljava/lang/AbstractStringBuilder;" } : Jvm.MethodName) prog_21_method_32_code (4 : Nat) (Option.some (Jvm.ClassFile.FieldType.object "java/lang/AbstractStringBuilder"))) ∈ lw_all := lw_g (lw_at lw_m2 75 rfl) rfl
theorem q363 : (Jvm.Cond.methodLink "java/lang/AbstractStringBuilder" (245 : Nat) ({ cls := "java/lang/Integer", name := "stringSize", desc := "(I)I" } : Jvm.MethodName)) ∈ lw_all := lw_g (lw_at lw_m2 76 rfl) rfl
theorem q366 : (Jvm.Cond.methodLink "java/lang/AbstractStringBuilder" (248 : Nat) ({ cls := "java/lang/Integer", name := "getChars", desc := "(II[B)I" } : Jvm.MethodName)) ∈ lw_all := lw_g (lw_at lw_m2 79 rfl) rfl
theorem q373 : (Jvm.Cond.methodLink "java/lang/AbstractStringBuilder" (251 : Nat) ({ cls := "java/lang/StringUTF16", name := "getChars", desc := "(III[B)I" } : Jvm.MethodName)) ∈ lw_all := lw_g (lw_at lw_m2 86 rfl) rfl
theorem q395 : (Jvm.Cond.instanceMethod ({ cls := "java/lang/AbstractStringBuilder", name := "getValue", desc := "()[B" } : Jvm.MethodName)) ∈ lw_all := lw_g (lw_at lw_m2 108 rfl) rfl
theorem q396 : (Jvm.Cond.sameMethod "java/lang/AbstractStringBuilder" "java/lang/AbstractStringBuilder" "getValue" "()[B") ∈ lw_all := lw_g (lw_at lw_m2 109 rfl) rfl
theorem q398 : (Jvm.Cond.code ({ cls := "java/lang/AbstractStringBuilder", name := "getValue", desc := "()[B" } : Jvm.MethodName) prog_21_method_64_code (1 : Nat) (Option.some (Jvm.ClassFile.FieldType.array Jvm.ClassFile.FieldType.byte))) ∈ lw_all := lw_g (lw_at lw_m2 111 rfl) rfl
theorem q400 : (Jvm.Cond.instanceMethod ({ cls := "java/lang/AbstractStringBuilder", name := "length", desc := "()I" } : Jvm.MethodName)) ∈ lw_all := lw_g (lw_at lw_m2 113 rfl) rfl
theorem q401 : (Jvm.Cond.sameMethod "java/lang/AbstractStringBuilder" "java/lang/AbstractStringBuilder" "length" "()I") ∈ lw_all := lw_g (lw_at lw_m2 114 rfl) rfl
theorem q406 : (Jvm.Cond.code ({ cls := "java/lang/AbstractStringBuilder", name := "length", desc := "()I" } : Jvm.MethodName) prog_21_method_6_code (1 : Nat) (Option.some Jvm.ClassFile.FieldType.int)) ∈ lw_all := lw_g (lw_at lw_m2 119 rfl) rfl
theorem q1034 : (Jvm.Cond.instanceMethod ({ cls := "java/lang/AbstractStringBuilder", name := "append", desc := "(C)Ljava/lang/AbstractStringBuilder;" } : Jvm.MethodName)) ∈ lw_all := lw_g (lw_at lw_m5 27 rfl) rfl
theorem q1035 : (Jvm.Cond.code ({ cls := "java/lang/AbstractStringBuilder", name := "append", desc := "(C)Ljava/lang/AbstractStringBuilder;" } : Jvm.MethodName) prog_21_method_31_code (2 : Nat) (Option.some (Jvm.ClassFile.FieldType.object "java/lang/AbstractStringBuilder"))) ∈ lw_all := lw_g (lw_at lw_m5 28 rfl) rfl
theorem q1036 : (Jvm.Cond.methodLink "java/lang/AbstractStringBuilder" (191 : Nat) ({ cls := "java/lang/StringLatin1", name := "canEncode", desc := "(C)Z" } : Jvm.MethodName)) ∈ lw_all := lw_g (lw_at lw_m5 29 rfl) rfl
theorem q1039 : (Jvm.Cond.methodLink "java/lang/AbstractStringBuilder" (197 : Nat) ({ cls := "java/lang/StringUTF16", name := "putCharSB", desc := "([BII)V" } : Jvm.MethodName)) ∈ lw_all := lw_g (lw_at lw_m5 32 rfl) rfl
theorem q2536 : (Jvm.Cond.sameMethod "java/lang/AbstractStringBuilder" "java/lang/AbstractStringBuilder" "append" "(Ljava/lang/String;)Ljava/lang/AbstractStringBuilder;") ∈ lw_all := lw_g (lw_at lw_m11 89 rfl) rfl
theorem q2537 : (Jvm.Cond.sameMethod "java/lang/AbstractStringBuilder" "java/lang/AbstractStringBuilder" "appendNull" "()Ljava/lang/AbstractStringBuilder;") ∈ lw_all := lw_g (lw_at lw_m11 90 rfl) rfl
theorem q2538 : (Jvm.Cond.sameMethod "java/lang/AbstractStringBuilder" "java/lang/AbstractStringBuilder" "ensureCapacityInternal" "(I)V") ∈ lw_all := lw_g (lw_at lw_m11 91 rfl) rfl
theorem q2539 : (Jvm.Cond.sameMethod "java/lang/AbstractStringBuilder" "java/lang/AbstractStringBuilder" "newCapacity" "(I)I") ∈ lw_all := lw_g (lw_at lw_m11 92 rfl) rfl
theorem q2540 : (Jvm.Cond.sameMethod "java/lang/AbstractStringBuilder" "java/lang/AbstractStringBuilder" "putStringAt" "(ILjava/lang/String;)V") ∈ lw_all := lw_g (lw_at lw_m11 93 rfl) rfl
theorem q2541 : (Jvm.Cond.sameMethod "java/lang/AbstractStringBuilder" "java/lang/AbstractStringBuilder" "inflateIfNeededFor" "(Ljava/lang/String;)V") ∈ lw_all := lw_g (lw_at lw_m11 94 rfl) rfl
theorem q2542 : (Jvm.Cond.sameMethod "java/lang/AbstractStringBuilder" "java/lang/AbstractStringBuilder" "inflate" "()V") ∈ lw_all := lw_g (lw_at lw_m11 95 rfl) rfl
theorem q2543 : (Jvm.Cond.sameMethod "java/lang/AbstractStringBuilder" "java/lang/AbstractStringBuilder" "append" "(I)Ljava/lang/AbstractStringBuilder;") ∈ lw_all := lw_g (lw_at lw_m11 96 rfl) rfl
theorem q2545 : (Jvm.Cond.sameMethod "java/lang/AbstractStringBuilder" "java/lang/AbstractStringBuilder" "append" "(C)Ljava/lang/AbstractStringBuilder;") ∈ lw_all := lw_g (lw_at lw_m11 98 rfl) rfl

/-! java/lang/StringBuilder -/
set_option maxRecDepth 100000
def RJ9 : String := "java/lang/StringBuilder"
def TJ9 : u_T := fun k => match k with
  | 0 => ("java/lang/AbstractStringBuilder", "value", "[B", false)
  | 1 => ("java/lang/AbstractStringBuilder", "coder", "B", false)
  | 2 => ("java/lang/AbstractStringBuilder", "maybeLatin1", "Z", false)
  | _ => ("java/lang/AbstractStringBuilder", "count", "I", false)
def tyJ9 : Nat → FieldType := fun k => match k with
  | 0 => .array .byte
  | 1 => .byte
  | 2 => .boolean
  | _ => .int
abbrev wsJ90 : List Cond := u_ws RJ9 TJ9 4
theorem nmJ9 : ∀ a, a < 4 → ∀ b, b < 4 → a ≠ b → (TJ9 a).2.1 ≠ (TJ9 b).2.1 := by decide +kernel
theorem tyJ9_ok : ∀ k, k < 4 → parseFieldDescriptor (TJ9 k).2.2.1 = some (tyJ9 k) := by decide +kernel
abbrev cJ9_init : ByteArray := prog_41_method_1_code
def yJ9_init : MethodName := ⟨RJ9, "<init>", "()V"⟩
def dkwJ9_init_0 : List UInt8 := [42, 16, 16, 183, 0, 1, 177]
abbrev dktJ9_init_0 : List UInt8 := dkwJ9_init_0 ++ []
theorem dksJ9_init_0 : cJ9_init.data.toList.drop 0 = dktJ9_init_0 := by decide +kernel
theorem dJ9_init_0 : decode cJ9_init 0 = .ok (.aload_n 0, 1) := dk_42 (dk_at dksJ9_init_0 0 rfl rfl)
theorem dJ9_init_1 : decode cJ9_init 1 = .ok (.bipush 16, 2) := dk_16 16 (dk_at dksJ9_init_0 1 rfl rfl)
theorem dJ9_init_3 : decode cJ9_init 3 = .ok (.invokespecial 1, 3) := dk_183 0 1 (dk_at dksJ9_init_0 3 rfl rfl)
theorem dJ9_init_6 : decode cJ9_init 6 = .ok (.return_, 1) := dk_177 (dk_at dksJ9_init_0 6 rfl rfl)
abbrev cJ9_append : ByteArray := prog_41_method_7_code
def yJ9_append : MethodName := ⟨RJ9, "append", "(Ljava/lang/String;)Ljava/lang/StringBuilder;"⟩
def dkwJ9_append_0 : List UInt8 := [42, 43, 183, 0, 29, 87, 42, 176]
abbrev dktJ9_append_0 : List UInt8 := dkwJ9_append_0 ++ []
theorem dksJ9_append_0 : cJ9_append.data.toList.drop 0 = dktJ9_append_0 := by decide +kernel
theorem dJ9_append_0 : decode cJ9_append 0 = .ok (.aload_n 0, 1) := dk_42 (dk_at dksJ9_append_0 0 rfl rfl)
theorem dJ9_append_1 : decode cJ9_append 1 = .ok (.aload_n 1, 1) := dk_43 (dk_at dksJ9_append_0 1 rfl rfl)
theorem dJ9_append_2 : decode cJ9_append 2 = .ok (.invokespecial 29, 3) := dk_183 0 29 (dk_at dksJ9_append_0 2 rfl rfl)
theorem dJ9_append_5 : decode cJ9_append 5 = .ok (.pop, 1) := dk_87 (dk_at dksJ9_append_0 5 rfl rfl)
theorem dJ9_append_6 : decode cJ9_append 6 = .ok (.aload_n 0, 1) := dk_42 (dk_at dksJ9_append_0 6 rfl rfl)
theorem dJ9_append_7 : decode cJ9_append 7 = .ok (.areturn, 1) := dk_176 (dk_at dksJ9_append_0 7 rfl rfl)
abbrev cJ9_append_2 : ByteArray := prog_41_method_15_code
def yJ9_append_2 : MethodName := ⟨RJ9, "append", "(I)Ljava/lang/StringBuilder;"⟩
def dkwJ9_append_2_0 : List UInt8 := [42, 27, 183, 0, 53, 87, 42, 176]
abbrev dktJ9_append_2_0 : List UInt8 := dkwJ9_append_2_0 ++ []
theorem dksJ9_append_2_0 : cJ9_append_2.data.toList.drop 0 = dktJ9_append_2_0 := by decide +kernel
theorem dJ9_append_2_0 : decode cJ9_append_2 0 = .ok (.aload_n 0, 1) := dk_42 (dk_at dksJ9_append_2_0 0 rfl rfl)
theorem dJ9_append_2_1 : decode cJ9_append_2 1 = .ok (.iload_n 1, 1) := dk_27 (dk_at dksJ9_append_2_0 1 rfl rfl)
theorem dJ9_append_2_2 : decode cJ9_append_2 2 = .ok (.invokespecial 53, 3) := dk_183 0 53 (dk_at dksJ9_append_2_0 2 rfl rfl)
theorem dJ9_append_2_5 : decode cJ9_append_2 5 = .ok (.pop, 1) := dk_87 (dk_at dksJ9_append_2_0 5 rfl rfl)
theorem dJ9_append_2_6 : decode cJ9_append_2 6 = .ok (.aload_n 0, 1) := dk_42 (dk_at dksJ9_append_2_0 6 rfl rfl)
theorem dJ9_append_2_7 : decode cJ9_append_2 7 = .ok (.areturn, 1) := dk_176 (dk_at dksJ9_append_2_0 7 rfl rfl)
abbrev cJ9_toString : ByteArray := prog_41_method_42_code
def yJ9_toString : MethodName := ⟨RJ9, "toString", "()Ljava/lang/String;"⟩
def dkwJ9_toString_0 : List UInt8 := [187, 0, 18, 89, 42, 183, 0, 137, 176]
abbrev dktJ9_toString_0 : List UInt8 := dkwJ9_toString_0 ++ []
theorem dksJ9_toString_0 : cJ9_toString.data.toList.drop 0 = dktJ9_toString_0 := by decide +kernel
theorem dJ9_toString_0 : decode cJ9_toString 0 = .ok (.new 18, 3) := dk_187 0 18 (dk_at dksJ9_toString_0 0 rfl rfl)
theorem dJ9_toString_3 : decode cJ9_toString 3 = .ok (.dup, 1) := dk_89 (dk_at dksJ9_toString_0 3 rfl rfl)
theorem dJ9_toString_4 : decode cJ9_toString 4 = .ok (.aload_n 0, 1) := dk_42 (dk_at dksJ9_toString_0 4 rfl rfl)
theorem dJ9_toString_5 : decode cJ9_toString 5 = .ok (.invokespecial 137, 3) := dk_183 0 137 (dk_at dksJ9_toString_0 5 rfl rfl)
theorem dJ9_toString_8 : decode cJ9_toString 8 = .ok (.areturn, 1) := dk_176 (dk_at dksJ9_toString_0 8 rfl rfl)
abbrev cJ9_length : ByteArray := prog_41_method_93_code
def yJ9_length : MethodName := ⟨RJ9, "length", "()I"⟩
theorem dJ9_length_0 : decode cJ9_length 0 = .ok (.aload_n 0, 1) := by decide +kernel
theorem dJ9_length_1 : decode cJ9_length 1 = .ok (.invokespecial 343, 3) := by decide +kernel
theorem dJ9_length_4 : decode cJ9_length 4 = .ok (.ireturn, 1) := by decide +kernel
abbrev cJ9_append_3 : ByteArray := prog_41_method_14_code
def yJ9_append_3 : MethodName := ⟨RJ9, "append", "(C)Ljava/lang/StringBuilder;"⟩
def dkwJ9_append_3_0 : List UInt8 := [42, 27, 183, 0, 50, 87, 42, 176]
abbrev dktJ9_append_3_0 : List UInt8 := dkwJ9_append_3_0 ++ []
theorem dksJ9_append_3_0 : cJ9_append_3.data.toList.drop 0 = dktJ9_append_3_0 := by decide +kernel
theorem dJ9_append_3_0 : decode cJ9_append_3 0 = .ok (.aload_n 0, 1) := dk_42 (dk_at dksJ9_append_3_0 0 rfl rfl)
theorem dJ9_append_3_1 : decode cJ9_append_3 1 = .ok (.iload_n 1, 1) := dk_27 (dk_at dksJ9_append_3_0 1 rfl rfl)
theorem dJ9_append_3_2 : decode cJ9_append_3 2 = .ok (.invokespecial 50, 3) := dk_183 0 50 (dk_at dksJ9_append_3_0 2 rfl rfl)
theorem dJ9_append_3_5 : decode cJ9_append_3 5 = .ok (.pop, 1) := dk_87 (dk_at dksJ9_append_3_0 5 rfl rfl)
theorem dJ9_append_3_6 : decode cJ9_append_3 6 = .ok (.aload_n 0, 1) := dk_42 (dk_at dksJ9_append_3_0 6 rfl rfl)
theorem dJ9_append_3_7 : decode cJ9_append_3 7 = .ok (.areturn, 1) := dk_176 (dk_at dksJ9_append_3_0 7 rfl rfl)
theorem q58 : (Jvm.Cond.initialized "java/lang/StringBuilder") ∈ lw_all := lw_g (lw_at lw_m1 11 rfl) rfl
theorem q204 : (Jvm.Cond.instantiable "java/lang/StringBuilder" (4 : Nat)) ∈ lw_all := lw_g (lw_at lw_m1 157 rfl) rfl
theorem q206 : (Jvm.Cond.instanceMethod ({ cls := "java/lang/StringBuilder", name := "<init>", desc := "()V" } : Jvm.MethodName)) ∈ lw_all := lw_g (lw_at lw_m1 159 rfl) rfl
theorem q207 : (Jvm.Cond.code ({ cls := "java/lang/StringBuilder", name := "<init>", desc := "()V" } : Jvm.MethodName) prog_41_method_1_code (1 : Nat) (Option.none : Option Jvm.ClassFile.FieldType)) ∈ lw_all := lw_g (lw_at lw_m1 160 rfl) rfl
theorem q208 : (Jvm.Cond.methodLink "java/lang/StringBuilder" (1 : Nat) ({ cls := "java/lang/AbstractStringBuilder", name := "<init>", desc := "(I)V" } : Jvm.MethodName)) ∈ lw_all := lw_g (lw_at lw_m1 161 rfl) rfl
theorem q225 : (Jvm.Cond.lays "java/lang/StringBuilder" "java/lang/AbstractStringBuilder" "value" "[B") ∈ lw_all := lw_g (lw_at lw_m1 178 rfl) rfl
theorem q227 : (Jvm.Cond.lays "java/lang/StringBuilder" "java/lang/AbstractStringBuilder" "coder" "B") ∈ lw_all := lw_g (lw_at lw_m1 180 rfl) rfl
theorem q229 : (Jvm.Cond.lays "java/lang/StringBuilder" "java/lang/AbstractStringBuilder" "maybeLatin1" "Z") ∈ lw_all := lw_g (lw_at lw_m1 182 rfl) rfl
theorem q231 : (Jvm.Cond.lays "java/lang/StringBuilder" "java/lang/AbstractStringBuilder" "count" "I") ∈ lw_all := lw_g (lw_at lw_m1 184 rfl) rfl
theorem q233 : (Jvm.Cond.superclass "java/lang/StringBuilder" "java/lang/AbstractStringBuilder") ∈ lw_all := lw_g (lw_at lw_m1 186 rfl) rfl
theorem q237 : (Jvm.Cond.instanceMethod ({ cls := "java/lang/StringBuilder", name := "append", desc := "(Ljava/lang/String;)Ljava/lang/StringBuilder;" } : Jvm.MethodName)) ∈ lw_all := lw_g (lw_at lw_m1 190 rfl) rfl
theorem q238 : (Jvm.Cond.selects "java/lang/StringBuilder" ({ cls := "java/lang/StringBuilder", name := "append", desc := "(Ljava/lang/String;)Ljava/lang/StringBuilder;" } : Jvm.MethodName) ({ cls := "java/lang/StringBuilder", name := "append", desc := "(Ljava/lang/String;)Ljava/lang/StringBuilder;" } : Jvm.MethodName)) ∈ lw_all := lw_g (lw_at lw_m1 191 rfl) rfl
theorem q239 : (Jvm.Cond.code ({ cls := "java/lang/StringBuilder", name := "append", desc := "(Ljava/lang/String;)Ljava/lang/StringBuilder;" } : Jvm.MethodName) prog_41_method_7_code (2 : Nat) (Option.some (Jvm.ClassFile.FieldType.object "java/lang/StringBuilder"))) ∈ lw_all := lw_g (lw_at lw_m1 192 rfl) rfl
theorem q240 : (Jvm.Cond.methodLink "java/lang/StringBuilder" (29 : Nat) ({ cls := "java/lang/AbstractStringBuilder", name := "append", desc := "(Ljava/lang/String;)Ljava/lang/AbstractStringBuilder;" } : Jvm.MethodName)) ∈ lw_all := lw_g (lw_at lw_m1 193 rfl) rfl
theorem q285 : (Jvm.Cond.selects "java/lang/StringBuilder" ({ cls := "java/lang/AbstractStringBuilder", name := "isLatin1", desc := "()Z" } : Jvm.MethodName) ({ cls := "java/lang/AbstractStringBuilder", name := "isLatin1", desc := "()Z" } : Jvm.MethodName)) ∈ lw_all := lw_g (lw_at lw_m1 238 rfl) rfl
theorem q357 : (Jvm.Cond.instanceMethod ({ cls := "java/lang/StringBuilder", name := "append", desc := "(I)Ljava/lang/StringBuilder;" } : Jvm.MethodName)) ∈ lw_all := lw_g (lw_at lw_m2 70 rfl) rfl
theorem q358 : (Jvm.Cond.selects "java/lang/StringBuilder" ({ cls := "java/lang/StringBuilder", name := "append", desc := "(I)Ljava/lang/StringBuilder;" } : Jvm.MethodName) ({ cls := "java/lang/StringBuilder", name := "append", desc := "(I)Ljava/lang/StringBuilder;" } : Jvm.MethodName)) ∈ lw_all := lw_g (lw_at lw_m2 71 rfl) rfl
theorem q359 : (Jvm.Cond.code ({ cls := "java/lang/StringBuilder", name := "append", desc := "(I)Ljava/lang/StringBuilder;" } : Jvm.MethodName) prog_41_method_15_code (2 : Nat) (Option.some (Jvm.ClassFile.FieldType.object "java/lang/StringBuilder"))) ∈ lw_all := lw_g (lw_at lw_m2 72 rfl) rfl
theorem q360 : (Jvm.Cond.methodLink "java/lang/StringBuilder" (53 : Nat) ({ cls := "java/lang/AbstractStringBuilder", name := "append", desc := "(I)Ljava/lang/AbstractStringBuilder;" } : Jvm.MethodName)) ∈ lw_all := lw_g (lw_at lw_m2 73 rfl) rfl
theorem q382 : (Jvm.Cond.instanceMethod ({ cls := "java/lang/StringBuilder", name := "toString", desc := "()Ljava/lang/String;" } : Jvm.MethodName)) ∈ lw_all := lw_g (lw_at lw_m2 95 rfl) rfl
theorem q383 : (Jvm.Cond.selects "java/lang/StringBuilder" ({ cls := "java/lang/StringBuilder", name := "toString", desc := "()Ljava/lang/String;" } : Jvm.MethodName) ({ cls := "java/lang/StringBuilder", name := "toString", desc := "()Ljava/lang/String;" } : Jvm.MethodName)) ∈ lw_all := lw_g (lw_at lw_m2 96 rfl) rfl
theorem q384 : (Jvm.Cond.code ({ cls := "java/lang/StringBuilder", name := "toString", desc := "()Ljava/lang/String;" } : Jvm.MethodName) prog_41_method_42_code (1 : Nat) (Option.some (Jvm.ClassFile.FieldType.object "java/lang/String"))) ∈ lw_all := lw_g (lw_at lw_m2 97 rfl) rfl
theorem q385 : (Jvm.Cond.classLink "java/lang/StringBuilder" (18 : Nat) "java/lang/String") ∈ lw_all := lw_g (lw_at lw_m2 98 rfl) rfl
theorem q387 : (Jvm.Cond.methodLink "java/lang/StringBuilder" (137 : Nat) ({ cls := "java/lang/String", name := "<init>", desc := "(Ljava/lang/StringBuilder;)V" } : Jvm.MethodName)) ∈ lw_all := lw_g (lw_at lw_m2 100 rfl) rfl
theorem q397 : (Jvm.Cond.selects "java/lang/StringBuilder" ({ cls := "java/lang/AbstractStringBuilder", name := "getValue", desc := "()[B" } : Jvm.MethodName) ({ cls := "java/lang/AbstractStringBuilder", name := "getValue", desc := "()[B" } : Jvm.MethodName)) ∈ lw_all := lw_g (lw_at lw_m2 110 rfl) rfl
theorem q402 : (Jvm.Cond.selects "java/lang/StringBuilder" ({ cls := "java/lang/AbstractStringBuilder", name := "length", desc := "()I" } : Jvm.MethodName) ({ cls := "java/lang/StringBuilder", name := "length", desc := "()I" } : Jvm.MethodName)) ∈ lw_all := lw_g (lw_at lw_m2 115 rfl) rfl
theorem q403 : (Jvm.Cond.instanceMethod ({ cls := "java/lang/StringBuilder", name := "length", desc := "()I" } : Jvm.MethodName)) ∈ lw_all := lw_g (lw_at lw_m2 116 rfl) rfl
theorem q404 : (Jvm.Cond.code ({ cls := "java/lang/StringBuilder", name := "length", desc := "()I" } : Jvm.MethodName) prog_41_method_93_code (1 : Nat) (Option.some Jvm.ClassFile.FieldType.int)) ∈ lw_all := lw_g (lw_at lw_m2 117 rfl) rfl
theorem q405 : (Jvm.Cond.methodLink "java/lang/StringBuilder" (343 : Nat) ({ cls := "java/lang/AbstractStringBuilder", name := "length", desc := "()I" } : Jvm.MethodName)) ∈ lw_all := lw_g (lw_at lw_m2 118 rfl) rfl
theorem q843 : (Jvm.Cond.selects "java/lang/StringBuilder" ({ cls := "java/lang/Object", name := "getClass", desc := "()Ljava/lang/Class;" } : Jvm.MethodName) ({ cls := "java/lang/Object", name := "getClass", desc := "()Ljava/lang/Class;" } : Jvm.MethodName)) ∈ lw_all := lw_g (lw_at lw_m4 76 rfl) rfl
theorem q1030 : (Jvm.Cond.instanceMethod ({ cls := "java/lang/StringBuilder", name := "append", desc := "(C)Ljava/lang/StringBuilder;" } : Jvm.MethodName)) ∈ lw_all := lw_g (lw_at lw_m5 23 rfl) rfl
theorem q1031 : (Jvm.Cond.selects "java/lang/StringBuilder" ({ cls := "java/lang/StringBuilder", name := "append", desc := "(C)Ljava/lang/StringBuilder;" } : Jvm.MethodName) ({ cls := "java/lang/StringBuilder", name := "append", desc := "(C)Ljava/lang/StringBuilder;" } : Jvm.MethodName)) ∈ lw_all := lw_g (lw_at lw_m5 24 rfl) rfl
theorem q1032 : (Jvm.Cond.code ({ cls := "java/lang/StringBuilder", name := "append", desc := "(C)Ljava/lang/StringBuilder;" } : Jvm.MethodName) prog_41_method_14_code (2 : Nat) (Option.some (Jvm.ClassFile.FieldType.object "java/lang/StringBuilder"))) ∈ lw_all := lw_g (lw_at lw_m5 25 rfl) rfl
theorem q1033 : (Jvm.Cond.methodLink "java/lang/StringBuilder" (50 : Nat) ({ cls := "java/lang/AbstractStringBuilder", name := "append", desc := "(C)Ljava/lang/AbstractStringBuilder;" } : Jvm.MethodName)) ∈ lw_all := lw_g (lw_at lw_m5 26 rfl) rfl
theorem q2562 : (Jvm.Cond.castable "java/lang/StringBuilder" "java/lang/Object") ∈ lw_tbl := lw_at lw_m11 115 rfl
theorem in_J9 : ∀ w ∈ wsJ90, w ∈ lw_all := lw_in wsJ90 [225, 227, 229, 231] (by decide +kernel) (by decide +kernel)

/-! java/lang/String -/
set_option maxRecDepth 100000
def RJ10 : String := "java/lang/String"
def TJ10 : u_T := fun k => match k with
  | 0 => ("java/lang/String", "value", "[B", true)
  | 1 => ("java/lang/String", "coder", "B", true)
  | 2 => ("java/lang/String", "hash", "I", false)
  | _ => ("java/lang/String", "hashIsZero", "Z", false)
def tyJ10 : Nat → FieldType := fun k => match k with
  | 0 => .array .byte
  | 1 => .byte
  | 2 => .int
  | _ => .boolean
abbrev wsJ100 : List Cond := u_ws RJ10 TJ10 4
theorem nmJ10 : ∀ a, a < 4 → ∀ b, b < 4 → a ≠ b → (TJ10 a).2.1 ≠ (TJ10 b).2.1 := by decide +kernel
theorem tyJ10_ok : ∀ k, k < 4 → parseFieldDescriptor (TJ10 k).2.2.1 = some (tyJ10 k) := by decide +kernel
abbrev cJ10_checkBoundsBeginEnd : ByteArray := prog_40_method_158_code
def yJ10_checkBoundsBeginEnd : MethodName := ⟨RJ10, "checkBoundsBeginEnd", "(III)V"⟩
def dkwJ10_checkBoundsBeginEnd_0 : List UInt8 := [26, 27, 28, 178, 4, 29, 184, 4, 38, 87, 177]
abbrev dktJ10_checkBoundsBeginEnd_0 : List UInt8 := dkwJ10_checkBoundsBeginEnd_0 ++ []
theorem dksJ10_checkBoundsBeginEnd_0 : cJ10_checkBoundsBeginEnd.data.toList.drop 0 = dktJ10_checkBoundsBeginEnd_0 := by decide +kernel
theorem dJ10_checkBoundsBeginEnd_0 : decode cJ10_checkBoundsBeginEnd 0 = .ok (.iload_n 0, 1) := dk_26 (dk_at dksJ10_checkBoundsBeginEnd_0 0 rfl rfl)
theorem dJ10_checkBoundsBeginEnd_1 : decode cJ10_checkBoundsBeginEnd 1 = .ok (.iload_n 1, 1) := dk_27 (dk_at dksJ10_checkBoundsBeginEnd_0 1 rfl rfl)
theorem dJ10_checkBoundsBeginEnd_2 : decode cJ10_checkBoundsBeginEnd 2 = .ok (.iload_n 2, 1) := dk_28 (dk_at dksJ10_checkBoundsBeginEnd_0 2 rfl rfl)
theorem dJ10_checkBoundsBeginEnd_3 : decode cJ10_checkBoundsBeginEnd 3 = .ok (.getstatic 1053, 3) := dk_178 4 29 (dk_at dksJ10_checkBoundsBeginEnd_0 3 rfl rfl)
theorem dJ10_checkBoundsBeginEnd_6 : decode cJ10_checkBoundsBeginEnd 6 = .ok (.invokestatic 1062, 3) := dk_184 4 38 (dk_at dksJ10_checkBoundsBeginEnd_0 6 rfl rfl)
theorem dJ10_checkBoundsBeginEnd_9 : decode cJ10_checkBoundsBeginEnd 9 = .ok (.pop, 1) := dk_87 (dk_at dksJ10_checkBoundsBeginEnd_0 9 rfl rfl)
theorem dJ10_checkBoundsBeginEnd_10 : decode cJ10_checkBoundsBeginEnd 10 = .ok (.return_, 1) := dk_177 (dk_at dksJ10_checkBoundsBeginEnd_0 10 rfl rfl)
abbrev cJ10_length : ByteArray := prog_40_method_54_code
def yJ10_length : MethodName := ⟨RJ10, "length", "()I"⟩
def dkwJ10_length_0 : List UInt8 := [42, 180, 0, 9, 190, 42, 182, 1, 79, 122, 172]
abbrev dktJ10_length_0 : List UInt8 := dkwJ10_length_0 ++ []
theorem dksJ10_length_0 : cJ10_length.data.toList.drop 0 = dktJ10_length_0 := by decide +kernel
theorem dJ10_length_0 : decode cJ10_length 0 = .ok (.aload_n 0, 1) := dk_42 (dk_at dksJ10_length_0 0 rfl rfl)
theorem dJ10_length_1 : decode cJ10_length 1 = .ok (.getfield 9, 3) := dk_180 0 9 (dk_at dksJ10_length_0 1 rfl rfl)
theorem dJ10_length_4 : decode cJ10_length 4 = .ok (.arraylength, 1) := dk_190 (dk_at dksJ10_length_0 4 rfl rfl)
theorem dJ10_length_5 : decode cJ10_length 5 = .ok (.aload_n 0, 1) := dk_42 (dk_at dksJ10_length_0 5 rfl rfl)
theorem dJ10_length_6 : decode cJ10_length 6 = .ok (.invokevirtual 335, 3) := dk_182 1 79 (dk_at dksJ10_length_0 6 rfl rfl)
theorem dJ10_length_9 : decode cJ10_length 9 = .ok (.ishr, 1) := dk_122 (dk_at dksJ10_length_0 9 rfl rfl)
theorem dJ10_length_10 : decode cJ10_length 10 = .ok (.ireturn, 1) := dk_172 (dk_at dksJ10_length_0 10 rfl rfl)
abbrev cJ10_coder : ByteArray := prog_40_method_152_code
def yJ10_coder : MethodName := ⟨RJ10, "coder", "()B"⟩
def dkwJ10_coder_0 : List UInt8 := [178, 0, 38, 153, 0, 10, 42, 180, 0, 15, 167, 0, 4, 4, 172]
abbrev dktJ10_coder_0 : List UInt8 := dkwJ10_coder_0 ++ []
theorem dksJ10_coder_0 : cJ10_coder.data.toList.drop 0 = dktJ10_coder_0 := by decide +kernel
theorem dJ10_coder_0 : decode cJ10_coder 0 = .ok (.getstatic 38, 3) := dk_178 0 38 (dk_at dksJ10_coder_0 0 rfl rfl)
theorem dJ10_coder_3 : decode cJ10_coder 3 = .ok (.ifCond .eq 10, 3) := dk_153 0 10 (dk_at dksJ10_coder_0 3 rfl rfl)
theorem dJ10_coder_6 : decode cJ10_coder 6 = .ok (.aload_n 0, 1) := dk_42 (dk_at dksJ10_coder_0 6 rfl rfl)
theorem dJ10_coder_7 : decode cJ10_coder 7 = .ok (.getfield 15, 3) := dk_180 0 15 (dk_at dksJ10_coder_0 7 rfl rfl)
theorem dJ10_coder_10 : decode cJ10_coder 10 = .ok (.goto 4, 3) := dk_167 0 4 (dk_at dksJ10_coder_0 10 rfl rfl)
theorem dJ10_coder_13 : decode cJ10_coder 13 = .ok (.iconst 1, 1) := dk_4 (dk_at dksJ10_coder_0 13 rfl rfl)
theorem dJ10_coder_14 : decode cJ10_coder 14 = .ok (.ireturn, 1) := dk_172 (dk_at dksJ10_coder_0 14 rfl rfl)
abbrev cJ10_checkBoundsOffCount : ByteArray := prog_40_method_157_code
def yJ10_checkBoundsOffCount : MethodName := ⟨RJ10, "checkBoundsOffCount", "(III)I"⟩
def dkwJ10_checkBoundsOffCount_0 : List UInt8 := [26, 27, 28, 178, 4, 29, 184, 4, 41, 172]
abbrev dktJ10_checkBoundsOffCount_0 : List UInt8 := dkwJ10_checkBoundsOffCount_0 ++ []
theorem dksJ10_checkBoundsOffCount_0 : cJ10_checkBoundsOffCount.data.toList.drop 0 = dktJ10_checkBoundsOffCount_0 := by decide +kernel
theorem dJ10_checkBoundsOffCount_0 : decode cJ10_checkBoundsOffCount 0 = .ok (.iload_n 0, 1) := dk_26 (dk_at dksJ10_checkBoundsOffCount_0 0 rfl rfl)
theorem dJ10_checkBoundsOffCount_1 : decode cJ10_checkBoundsOffCount 1 = .ok (.iload_n 1, 1) := dk_27 (dk_at dksJ10_checkBoundsOffCount_0 1 rfl rfl)
theorem dJ10_checkBoundsOffCount_2 : decode cJ10_checkBoundsOffCount 2 = .ok (.iload_n 2, 1) := dk_28 (dk_at dksJ10_checkBoundsOffCount_0 2 rfl rfl)
theorem dJ10_checkBoundsOffCount_3 : decode cJ10_checkBoundsOffCount 3 = .ok (.getstatic 1053, 3) := dk_178 4 29 (dk_at dksJ10_checkBoundsOffCount_0 3 rfl rfl)
theorem dJ10_checkBoundsOffCount_6 : decode cJ10_checkBoundsOffCount 6 = .ok (.invokestatic 1065, 3) := dk_184 4 41 (dk_at dksJ10_checkBoundsOffCount_0 6 rfl rfl)
theorem dJ10_checkBoundsOffCount_9 : decode cJ10_checkBoundsOffCount 9 = .ok (.ireturn, 1) := dk_172 (dk_at dksJ10_checkBoundsOffCount_0 9 rfl rfl)
abbrev cJ10_getBytes : ByteArray := prog_40_method_147_code
def yJ10_getBytes : MethodName := ⟨RJ10, "getBytes", "([BIB)V"⟩
def dkwJ10_getBytes_1 : List UInt8 := [184, 0, 212, 167, 0, 18, 42, 180, 0, 9, 3, 43, 28, 42, 180, 0, 9, 190, 184, 0, 106, 177]
abbrev dktJ10_getBytes_1 : List UInt8 := dkwJ10_getBytes_1 ++ []
def dkwJ10_getBytes_0 : List UInt8 := [42, 182, 1, 79, 29, 160, 0, 23, 42, 180, 0, 9, 3, 43, 28, 29, 120, 42, 180, 0, 9, 190]
abbrev dktJ10_getBytes_0 : List UInt8 := dkwJ10_getBytes_0 ++ dktJ10_getBytes_1
theorem dksJ10_getBytes_0 : cJ10_getBytes.data.toList.drop 0 = dktJ10_getBytes_0 := by decide +kernel
theorem dksJ10_getBytes_1 : cJ10_getBytes.data.toList.drop 22 = dktJ10_getBytes_1 := dk_seg dksJ10_getBytes_0 22 rfl rfl
theorem dJ10_getBytes_0 : decode cJ10_getBytes 0 = .ok (.aload_n 0, 1) := dk_42 (dk_at dksJ10_getBytes_0 0 rfl rfl)
theorem dJ10_getBytes_1 : decode cJ10_getBytes 1 = .ok (.invokevirtual 335, 3) := dk_182 1 79 (dk_at dksJ10_getBytes_0 1 rfl rfl)
theorem dJ10_getBytes_4 : decode cJ10_getBytes 4 = .ok (.iload_n 3, 1) := dk_29 (dk_at dksJ10_getBytes_0 4 rfl rfl)
theorem dJ10_getBytes_5 : decode cJ10_getBytes 5 = .ok (.if_icmp .ne 23, 3) := dk_160 0 23 (dk_at dksJ10_getBytes_0 5 rfl rfl)
theorem dJ10_getBytes_8 : decode cJ10_getBytes 8 = .ok (.aload_n 0, 1) := dk_42 (dk_at dksJ10_getBytes_0 8 rfl rfl)
theorem dJ10_getBytes_9 : decode cJ10_getBytes 9 = .ok (.getfield 9, 3) := dk_180 0 9 (dk_at dksJ10_getBytes_0 9 rfl rfl)
theorem dJ10_getBytes_12 : decode cJ10_getBytes 12 = .ok (.iconst 0, 1) := dk_3 (dk_at dksJ10_getBytes_0 12 rfl rfl)
theorem dJ10_getBytes_13 : decode cJ10_getBytes 13 = .ok (.aload_n 1, 1) := dk_43 (dk_at dksJ10_getBytes_0 13 rfl rfl)
theorem dJ10_getBytes_14 : decode cJ10_getBytes 14 = .ok (.iload_n 2, 1) := dk_28 (dk_at dksJ10_getBytes_0 14 rfl rfl)
theorem dJ10_getBytes_15 : decode cJ10_getBytes 15 = .ok (.iload_n 3, 1) := dk_29 (dk_at dksJ10_getBytes_0 15 rfl rfl)
theorem dJ10_getBytes_16 : decode cJ10_getBytes 16 = .ok (.ishl, 1) := dk_120 (dk_at dksJ10_getBytes_0 16 rfl rfl)
theorem dJ10_getBytes_17 : decode cJ10_getBytes 17 = .ok (.aload_n 0, 1) := dk_42 (dk_at dksJ10_getBytes_0 17 rfl rfl)
theorem dJ10_getBytes_18 : decode cJ10_getBytes 18 = .ok (.getfield 9, 3) := dk_180 0 9 (dk_at dksJ10_getBytes_0 18 rfl rfl)
theorem dJ10_getBytes_21 : decode cJ10_getBytes 21 = .ok (.arraylength, 1) := dk_190 (dk_at dksJ10_getBytes_0 21 rfl rfl)
theorem dJ10_getBytes_22 : decode cJ10_getBytes 22 = .ok (.invokestatic 212, 3) := dk_184 0 212 (dk_at dksJ10_getBytes_1 0 rfl rfl)
theorem dJ10_getBytes_25 : decode cJ10_getBytes 25 = .ok (.goto 18, 3) := dk_167 0 18 (dk_at dksJ10_getBytes_1 3 rfl rfl)
theorem dJ10_getBytes_28 : decode cJ10_getBytes 28 = .ok (.aload_n 0, 1) := dk_42 (dk_at dksJ10_getBytes_1 6 rfl rfl)
theorem dJ10_getBytes_29 : decode cJ10_getBytes 29 = .ok (.getfield 9, 3) := dk_180 0 9 (dk_at dksJ10_getBytes_1 7 rfl rfl)
theorem dJ10_getBytes_32 : decode cJ10_getBytes 32 = .ok (.iconst 0, 1) := dk_3 (dk_at dksJ10_getBytes_1 10 rfl rfl)
theorem dJ10_getBytes_33 : decode cJ10_getBytes 33 = .ok (.aload_n 1, 1) := dk_43 (dk_at dksJ10_getBytes_1 11 rfl rfl)
theorem dJ10_getBytes_34 : decode cJ10_getBytes 34 = .ok (.iload_n 2, 1) := dk_28 (dk_at dksJ10_getBytes_1 12 rfl rfl)
theorem dJ10_getBytes_35 : decode cJ10_getBytes 35 = .ok (.aload_n 0, 1) := dk_42 (dk_at dksJ10_getBytes_1 13 rfl rfl)
theorem dJ10_getBytes_36 : decode cJ10_getBytes 36 = .ok (.getfield 9, 3) := dk_180 0 9 (dk_at dksJ10_getBytes_1 14 rfl rfl)
theorem dJ10_getBytes_39 : decode cJ10_getBytes 39 = .ok (.arraylength, 1) := dk_190 (dk_at dksJ10_getBytes_1 17 rfl rfl)
theorem dJ10_getBytes_40 : decode cJ10_getBytes 40 = .ok (.invokestatic 106, 3) := dk_184 0 106 (dk_at dksJ10_getBytes_1 18 rfl rfl)
theorem dJ10_getBytes_43 : decode cJ10_getBytes 43 = .ok (.return_, 1) := dk_177 (dk_at dksJ10_getBytes_1 21 rfl rfl)
abbrev cJ10_init : ByteArray := prog_40_method_53_code
def yJ10_init : MethodName := ⟨RJ10, "<init>", "(Ljava/lang/StringBuilder;)V"⟩
def dkwJ10_init_0 : List UInt8 := [42, 43, 1, 183, 1, 233, 177]
abbrev dktJ10_init_0 : List UInt8 := dkwJ10_init_0 ++ []
theorem dksJ10_init_0 : cJ10_init.data.toList.drop 0 = dktJ10_init_0 := by decide +kernel
theorem dJ10_init_0 : decode cJ10_init 0 = .ok (.aload_n 0, 1) := dk_42 (dk_at dksJ10_init_0 0 rfl rfl)
theorem dJ10_init_1 : decode cJ10_init 1 = .ok (.aload_n 1, 1) := dk_43 (dk_at dksJ10_init_0 1 rfl rfl)
theorem dJ10_init_2 : decode cJ10_init 2 = .ok (.aconst_null, 1) := dk_1 (dk_at dksJ10_init_0 2 rfl rfl)
theorem dJ10_init_3 : decode cJ10_init 3 = .ok (.invokespecial 489, 3) := dk_183 1 233 (dk_at dksJ10_init_0 3 rfl rfl)
theorem dJ10_init_6 : decode cJ10_init 6 = .ok (.return_, 1) := dk_177 (dk_at dksJ10_init_0 6 rfl rfl)
abbrev cJ10_init_2 : ByteArray := prog_40_method_150_code
def yJ10_init_2 : MethodName := ⟨RJ10, "<init>", "(Ljava/lang/AbstractStringBuilder;Ljava/lang/Void;)V"⟩
def dkwJ10_init_2_4 : List UInt8 := [181, 0, 9, 177]
abbrev dktJ10_init_2_4 : List UInt8 := dkwJ10_init_2_4 ++ []
def dkwJ10_init_2_3 : List UInt8 := [184, 0, 47, 181, 0, 15, 177, 42, 4, 181, 0, 15, 42, 45, 3, 21, 4, 4, 120, 184, 0, 54]
abbrev dktJ10_init_2_3 : List UInt8 := dkwJ10_init_2_3 ++ dktJ10_init_2_4
def dkwJ10_init_2_2 : List UInt8 := [180, 4, 24, 153, 0, 28, 42, 45, 3, 21, 4, 184, 4, 27, 181, 0, 9, 42, 42, 180, 0, 9, 21, 4]
abbrev dktJ10_init_2_2 : List UInt8 := dkwJ10_init_2_2 ++ dktJ10_init_2_3
def dkwJ10_init_2_1 : List UInt8 := [181, 0, 15, 42, 45, 3, 21, 4, 184, 0, 54, 181, 0, 9, 167, 0, 59, 178, 0, 38, 153, 0, 35, 43]
abbrev dktJ10_init_2_1 : List UInt8 := dkwJ10_init_2_1 ++ dktJ10_init_2_2
def dkwJ10_init_2_0 : List UInt8 := [42, 183, 0, 1, 43, 182, 2, 40, 78, 43, 182, 2, 37, 54, 4, 43, 182, 4, 23, 153, 0, 22, 42, 3]
abbrev dktJ10_init_2_0 : List UInt8 := dkwJ10_init_2_0 ++ dktJ10_init_2_1
theorem dksJ10_init_2_0 : cJ10_init_2.data.toList.drop 0 = dktJ10_init_2_0 := by decide +kernel
theorem dksJ10_init_2_1 : cJ10_init_2.data.toList.drop 24 = dktJ10_init_2_1 := dk_seg dksJ10_init_2_0 24 rfl rfl
theorem dksJ10_init_2_2 : cJ10_init_2.data.toList.drop 48 = dktJ10_init_2_2 := dk_seg dksJ10_init_2_1 24 rfl rfl
theorem dksJ10_init_2_3 : cJ10_init_2.data.toList.drop 72 = dktJ10_init_2_3 := dk_seg dksJ10_init_2_2 24 rfl rfl
theorem dksJ10_init_2_4 : cJ10_init_2.data.toList.drop 94 = dktJ10_init_2_4 := dk_seg dksJ10_init_2_3 22 rfl rfl
theorem dJ10_init_2_0 : decode cJ10_init_2 0 = .ok (.aload_n 0, 1) := dk_42 (dk_at dksJ10_init_2_0 0 rfl rfl)
theorem dJ10_init_2_1 : decode cJ10_init_2 1 = .ok (.invokespecial 1, 3) := dk_183 0 1 (dk_at dksJ10_init_2_0 1 rfl rfl)
theorem dJ10_init_2_4 : decode cJ10_init_2 4 = .ok (.aload_n 1, 1) := dk_43 (dk_at dksJ10_init_2_0 4 rfl rfl)
theorem dJ10_init_2_5 : decode cJ10_init_2 5 = .ok (.invokevirtual 552, 3) := dk_182 2 40 (dk_at dksJ10_init_2_0 5 rfl rfl)
theorem dJ10_init_2_8 : decode cJ10_init_2 8 = .ok (.astore_n 3, 1) := dk_78 (dk_at dksJ10_init_2_0 8 rfl rfl)
theorem dJ10_init_2_9 : decode cJ10_init_2 9 = .ok (.aload_n 1, 1) := dk_43 (dk_at dksJ10_init_2_0 9 rfl rfl)
theorem dJ10_init_2_10 : decode cJ10_init_2 10 = .ok (.invokevirtual 549, 3) := dk_182 2 37 (dk_at dksJ10_init_2_0 10 rfl rfl)
theorem dJ10_init_2_13 : decode cJ10_init_2 13 = .ok (.istore 4, 2) := dk_54 4 (dk_at dksJ10_init_2_0 13 rfl rfl)
theorem dJ10_init_2_15 : decode cJ10_init_2 15 = .ok (.aload_n 1, 1) := dk_43 (dk_at dksJ10_init_2_0 15 rfl rfl)
theorem dJ10_init_2_16 : decode cJ10_init_2 16 = .ok (.invokevirtual 1047, 3) := dk_182 4 23 (dk_at dksJ10_init_2_0 16 rfl rfl)
theorem dJ10_init_2_19 : decode cJ10_init_2 19 = .ok (.ifCond .eq 22, 3) := dk_153 0 22 (dk_at dksJ10_init_2_0 19 rfl rfl)
theorem dJ10_init_2_22 : decode cJ10_init_2 22 = .ok (.aload_n 0, 1) := dk_42 (dk_at dksJ10_init_2_0 22 rfl rfl)
theorem dJ10_init_2_23 : decode cJ10_init_2 23 = .ok (.iconst 0, 1) := dk_3 (dk_at dksJ10_init_2_0 23 rfl rfl)
theorem dJ10_init_2_24 : decode cJ10_init_2 24 = .ok (.putfield 15, 3) := dk_181 0 15 (dk_at dksJ10_init_2_1 0 rfl rfl)
theorem dJ10_init_2_27 : decode cJ10_init_2 27 = .ok (.aload_n 0, 1) := dk_42 (dk_at dksJ10_init_2_1 3 rfl rfl)
theorem dJ10_init_2_28 : decode cJ10_init_2 28 = .ok (.aload_n 3, 1) := dk_45 (dk_at dksJ10_init_2_1 4 rfl rfl)
theorem dJ10_init_2_29 : decode cJ10_init_2 29 = .ok (.iconst 0, 1) := dk_3 (dk_at dksJ10_init_2_1 5 rfl rfl)
theorem dJ10_init_2_30 : decode cJ10_init_2 30 = .ok (.iload 4, 2) := dk_21 4 (dk_at dksJ10_init_2_1 6 rfl rfl)
theorem dJ10_init_2_32 : decode cJ10_init_2 32 = .ok (.invokestatic 54, 3) := dk_184 0 54 (dk_at dksJ10_init_2_1 8 rfl rfl)
theorem dJ10_init_2_35 : decode cJ10_init_2 35 = .ok (.putfield 9, 3) := dk_181 0 9 (dk_at dksJ10_init_2_1 11 rfl rfl)
theorem dJ10_init_2_38 : decode cJ10_init_2 38 = .ok (.goto 59, 3) := dk_167 0 59 (dk_at dksJ10_init_2_1 14 rfl rfl)
theorem dJ10_init_2_41 : decode cJ10_init_2 41 = .ok (.getstatic 38, 3) := dk_178 0 38 (dk_at dksJ10_init_2_1 17 rfl rfl)
theorem dJ10_init_2_44 : decode cJ10_init_2 44 = .ok (.ifCond .eq 35, 3) := dk_153 0 35 (dk_at dksJ10_init_2_1 20 rfl rfl)
theorem dJ10_init_2_47 : decode cJ10_init_2 47 = .ok (.aload_n 1, 1) := dk_43 (dk_at dksJ10_init_2_1 23 rfl rfl)
theorem dJ10_init_2_48 : decode cJ10_init_2 48 = .ok (.getfield 1048, 3) := dk_180 4 24 (dk_at dksJ10_init_2_2 0 rfl rfl)
theorem dJ10_init_2_51 : decode cJ10_init_2 51 = .ok (.ifCond .eq 28, 3) := dk_153 0 28 (dk_at dksJ10_init_2_2 3 rfl rfl)
theorem dJ10_init_2_54 : decode cJ10_init_2 54 = .ok (.aload_n 0, 1) := dk_42 (dk_at dksJ10_init_2_2 6 rfl rfl)
theorem dJ10_init_2_55 : decode cJ10_init_2 55 = .ok (.aload_n 3, 1) := dk_45 (dk_at dksJ10_init_2_2 7 rfl rfl)
theorem dJ10_init_2_56 : decode cJ10_init_2 56 = .ok (.iconst 0, 1) := dk_3 (dk_at dksJ10_init_2_2 8 rfl rfl)
theorem dJ10_init_2_57 : decode cJ10_init_2 57 = .ok (.iload 4, 2) := dk_21 4 (dk_at dksJ10_init_2_2 9 rfl rfl)
theorem dJ10_init_2_59 : decode cJ10_init_2 59 = .ok (.invokestatic 1051, 3) := dk_184 4 27 (dk_at dksJ10_init_2_2 11 rfl rfl)
theorem dJ10_init_2_62 : decode cJ10_init_2 62 = .ok (.putfield 9, 3) := dk_181 0 9 (dk_at dksJ10_init_2_2 14 rfl rfl)
theorem dJ10_init_2_65 : decode cJ10_init_2 65 = .ok (.aload_n 0, 1) := dk_42 (dk_at dksJ10_init_2_2 17 rfl rfl)
theorem dJ10_init_2_66 : decode cJ10_init_2 66 = .ok (.aload_n 0, 1) := dk_42 (dk_at dksJ10_init_2_2 18 rfl rfl)
theorem dJ10_init_2_67 : decode cJ10_init_2 67 = .ok (.getfield 9, 3) := dk_180 0 9 (dk_at dksJ10_init_2_2 19 rfl rfl)
theorem dJ10_init_2_70 : decode cJ10_init_2 70 = .ok (.iload 4, 2) := dk_21 4 (dk_at dksJ10_init_2_2 22 rfl rfl)
theorem dJ10_init_2_72 : decode cJ10_init_2 72 = .ok (.invokestatic 47, 3) := dk_184 0 47 (dk_at dksJ10_init_2_3 0 rfl rfl)
theorem dJ10_init_2_75 : decode cJ10_init_2 75 = .ok (.putfield 15, 3) := dk_181 0 15 (dk_at dksJ10_init_2_3 3 rfl rfl)
theorem dJ10_init_2_78 : decode cJ10_init_2 78 = .ok (.return_, 1) := dk_177 (dk_at dksJ10_init_2_3 6 rfl rfl)
theorem dJ10_init_2_79 : decode cJ10_init_2 79 = .ok (.aload_n 0, 1) := dk_42 (dk_at dksJ10_init_2_3 7 rfl rfl)
theorem dJ10_init_2_80 : decode cJ10_init_2 80 = .ok (.iconst 1, 1) := dk_4 (dk_at dksJ10_init_2_3 8 rfl rfl)
theorem dJ10_init_2_81 : decode cJ10_init_2 81 = .ok (.putfield 15, 3) := dk_181 0 15 (dk_at dksJ10_init_2_3 9 rfl rfl)
theorem dJ10_init_2_84 : decode cJ10_init_2 84 = .ok (.aload_n 0, 1) := dk_42 (dk_at dksJ10_init_2_3 12 rfl rfl)
theorem dJ10_init_2_85 : decode cJ10_init_2 85 = .ok (.aload_n 3, 1) := dk_45 (dk_at dksJ10_init_2_3 13 rfl rfl)
theorem dJ10_init_2_86 : decode cJ10_init_2 86 = .ok (.iconst 0, 1) := dk_3 (dk_at dksJ10_init_2_3 14 rfl rfl)
theorem dJ10_init_2_87 : decode cJ10_init_2 87 = .ok (.iload 4, 2) := dk_21 4 (dk_at dksJ10_init_2_3 15 rfl rfl)
theorem dJ10_init_2_89 : decode cJ10_init_2 89 = .ok (.iconst 1, 1) := dk_4 (dk_at dksJ10_init_2_3 17 rfl rfl)
theorem dJ10_init_2_90 : decode cJ10_init_2 90 = .ok (.ishl, 1) := dk_120 (dk_at dksJ10_init_2_3 18 rfl rfl)
theorem dJ10_init_2_91 : decode cJ10_init_2 91 = .ok (.invokestatic 54, 3) := dk_184 0 54 (dk_at dksJ10_init_2_3 19 rfl rfl)
theorem dJ10_init_2_94 : decode cJ10_init_2 94 = .ok (.putfield 9, 3) := dk_181 0 9 (dk_at dksJ10_init_2_4 0 rfl rfl)
theorem dJ10_init_2_97 : decode cJ10_init_2 97 = .ok (.return_, 1) := dk_177 (dk_at dksJ10_init_2_4 3 rfl rfl)
abbrev cJ10_checkIndex : ByteArray := prog_40_method_155_code
def yJ10_checkIndex : MethodName := ⟨RJ10, "checkIndex", "(II)V"⟩
def dkwJ10_checkIndex_0 : List UInt8 := [26, 27, 178, 4, 29, 184, 4, 35, 87, 177]
abbrev dktJ10_checkIndex_0 : List UInt8 := dkwJ10_checkIndex_0 ++ []
theorem dksJ10_checkIndex_0 : cJ10_checkIndex.data.toList.drop 0 = dktJ10_checkIndex_0 := by decide +kernel
theorem dJ10_checkIndex_0 : decode cJ10_checkIndex 0 = .ok (.iload_n 0, 1) := dk_26 (dk_at dksJ10_checkIndex_0 0 rfl rfl)
theorem dJ10_checkIndex_1 : decode cJ10_checkIndex 1 = .ok (.iload_n 1, 1) := dk_27 (dk_at dksJ10_checkIndex_0 1 rfl rfl)
theorem dJ10_checkIndex_2 : decode cJ10_checkIndex 2 = .ok (.getstatic 1053, 3) := dk_178 4 29 (dk_at dksJ10_checkIndex_0 2 rfl rfl)
theorem dJ10_checkIndex_5 : decode cJ10_checkIndex 5 = .ok (.invokestatic 1059, 3) := dk_184 4 35 (dk_at dksJ10_checkIndex_0 5 rfl rfl)
theorem dJ10_checkIndex_8 : decode cJ10_checkIndex 8 = .ok (.pop, 1) := dk_87 (dk_at dksJ10_checkIndex_0 8 rfl rfl)
theorem dJ10_checkIndex_9 : decode cJ10_checkIndex 9 = .ok (.return_, 1) := dk_177 (dk_at dksJ10_checkIndex_0 9 rfl rfl)
abbrev cJ10_equals : ByteArray := prog_40_method_66_code
def yJ10_equals : MethodName := ⟨RJ10, "equals", "(Ljava/lang/Object;)Z"⟩
def dkwJ10_equals_2 : List UInt8 := [184, 2, 29, 153, 0, 7, 4, 167, 0, 4, 3, 172]
abbrev dktJ10_equals_2 : List UInt8 := dkwJ10_equals_2 ++ []
def dkwJ10_equals_1 : List UInt8 := [153, 0, 14, 42, 180, 0, 15, 44, 180, 0, 15, 160, 0, 21, 42, 180, 0, 9, 44, 180, 0, 9]
abbrev dktJ10_equals_1 : List UInt8 := dkwJ10_equals_1 ++ dktJ10_equals_2
def dkwJ10_equals_0 : List UInt8 := [42, 43, 166, 0, 5, 4, 172, 43, 193, 0, 10, 153, 0, 43, 43, 192, 0, 10, 77, 178, 0, 38]
abbrev dktJ10_equals_0 : List UInt8 := dkwJ10_equals_0 ++ dktJ10_equals_1
theorem dksJ10_equals_0 : cJ10_equals.data.toList.drop 0 = dktJ10_equals_0 := by decide +kernel
theorem dksJ10_equals_1 : cJ10_equals.data.toList.drop 22 = dktJ10_equals_1 := dk_seg dksJ10_equals_0 22 rfl rfl
theorem dksJ10_equals_2 : cJ10_equals.data.toList.drop 44 = dktJ10_equals_2 := dk_seg dksJ10_equals_1 22 rfl rfl
theorem dJ10_equals_0 : decode cJ10_equals 0 = .ok (.aload_n 0, 1) := dk_42 (dk_at dksJ10_equals_0 0 rfl rfl)
theorem dJ10_equals_1 : decode cJ10_equals 1 = .ok (.aload_n 1, 1) := dk_43 (dk_at dksJ10_equals_0 1 rfl rfl)
theorem dJ10_equals_2 : decode cJ10_equals 2 = .ok (.if_acmp .ne 5, 3) := dk_166 0 5 (dk_at dksJ10_equals_0 2 rfl rfl)
theorem dJ10_equals_5 : decode cJ10_equals 5 = .ok (.iconst 1, 1) := dk_4 (dk_at dksJ10_equals_0 5 rfl rfl)
theorem dJ10_equals_6 : decode cJ10_equals 6 = .ok (.ireturn, 1) := dk_172 (dk_at dksJ10_equals_0 6 rfl rfl)
theorem dJ10_equals_7 : decode cJ10_equals 7 = .ok (.aload_n 1, 1) := dk_43 (dk_at dksJ10_equals_0 7 rfl rfl)
theorem dJ10_equals_8 : decode cJ10_equals 8 = .ok (.instanceof 10, 3) := dk_193 0 10 (dk_at dksJ10_equals_0 8 rfl rfl)
theorem dJ10_equals_11 : decode cJ10_equals 11 = .ok (.ifCond .eq 43, 3) := dk_153 0 43 (dk_at dksJ10_equals_0 11 rfl rfl)
theorem dJ10_equals_14 : decode cJ10_equals 14 = .ok (.aload_n 1, 1) := dk_43 (dk_at dksJ10_equals_0 14 rfl rfl)
theorem dJ10_equals_15 : decode cJ10_equals 15 = .ok (.checkcast 10, 3) := dk_192 0 10 (dk_at dksJ10_equals_0 15 rfl rfl)
theorem dJ10_equals_18 : decode cJ10_equals 18 = .ok (.astore_n 2, 1) := dk_77 (dk_at dksJ10_equals_0 18 rfl rfl)
theorem dJ10_equals_19 : decode cJ10_equals 19 = .ok (.getstatic 38, 3) := dk_178 0 38 (dk_at dksJ10_equals_0 19 rfl rfl)
theorem dJ10_equals_22 : decode cJ10_equals 22 = .ok (.ifCond .eq 14, 3) := dk_153 0 14 (dk_at dksJ10_equals_1 0 rfl rfl)
theorem dJ10_equals_25 : decode cJ10_equals 25 = .ok (.aload_n 0, 1) := dk_42 (dk_at dksJ10_equals_1 3 rfl rfl)
theorem dJ10_equals_26 : decode cJ10_equals 26 = .ok (.getfield 15, 3) := dk_180 0 15 (dk_at dksJ10_equals_1 4 rfl rfl)
theorem dJ10_equals_29 : decode cJ10_equals 29 = .ok (.aload_n 2, 1) := dk_44 (dk_at dksJ10_equals_1 7 rfl rfl)
theorem dJ10_equals_30 : decode cJ10_equals 30 = .ok (.getfield 15, 3) := dk_180 0 15 (dk_at dksJ10_equals_1 8 rfl rfl)
theorem dJ10_equals_33 : decode cJ10_equals 33 = .ok (.if_icmp .ne 21, 3) := dk_160 0 21 (dk_at dksJ10_equals_1 11 rfl rfl)
theorem dJ10_equals_36 : decode cJ10_equals 36 = .ok (.aload_n 0, 1) := dk_42 (dk_at dksJ10_equals_1 14 rfl rfl)
theorem dJ10_equals_37 : decode cJ10_equals 37 = .ok (.getfield 9, 3) := dk_180 0 9 (dk_at dksJ10_equals_1 15 rfl rfl)
theorem dJ10_equals_40 : decode cJ10_equals 40 = .ok (.aload_n 2, 1) := dk_44 (dk_at dksJ10_equals_1 18 rfl rfl)
theorem dJ10_equals_41 : decode cJ10_equals 41 = .ok (.getfield 9, 3) := dk_180 0 9 (dk_at dksJ10_equals_1 19 rfl rfl)
theorem dJ10_equals_44 : decode cJ10_equals 44 = .ok (.invokestatic 541, 3) := dk_184 2 29 (dk_at dksJ10_equals_2 0 rfl rfl)
theorem dJ10_equals_47 : decode cJ10_equals 47 = .ok (.ifCond .eq 7, 3) := dk_153 0 7 (dk_at dksJ10_equals_2 3 rfl rfl)
theorem dJ10_equals_50 : decode cJ10_equals 50 = .ok (.iconst 1, 1) := dk_4 (dk_at dksJ10_equals_2 6 rfl rfl)
theorem dJ10_equals_51 : decode cJ10_equals 51 = .ok (.goto 4, 3) := dk_167 0 4 (dk_at dksJ10_equals_2 7 rfl rfl)
theorem dJ10_equals_54 : decode cJ10_equals 54 = .ok (.iconst 0, 1) := dk_3 (dk_at dksJ10_equals_2 10 rfl rfl)
theorem dJ10_equals_55 : decode cJ10_equals 55 = .ok (.ireturn, 1) := dk_172 (dk_at dksJ10_equals_2 11 rfl rfl)
theorem q59 : (Jvm.Cond.initialized "java/lang/String") ∈ lw_all := lw_g (lw_at lw_m1 12 rfl) rfl
theorem q213 : (Jvm.Cond.laysStatic "java/lang/String" "COMPACT_STRINGS" "Z") ∈ lw_tbl := lw_at lw_m1 166 rfl
theorem q223 : (Jvm.Cond.fieldLink "java/lang/String" (1048 : Nat) "java/lang/AbstractStringBuilder" "maybeLatin1" "Z") ∈ lw_all := lw_g (lw_at lw_m1 176 rfl) rfl
theorem q297 : (Jvm.Cond.static ({ cls := "java/lang/String", name := "checkBoundsBeginEnd", desc := "(III)V" } : Jvm.MethodName)) ∈ lw_all := lw_g (lw_at lw_m2 10 rfl) rfl
theorem q298 : (Jvm.Cond.code ({ cls := "java/lang/String", name := "checkBoundsBeginEnd", desc := "(III)V" } : Jvm.MethodName) prog_40_method_158_code (3 : Nat) (Option.none : Option Jvm.ClassFile.FieldType)) ∈ lw_all := lw_g (lw_at lw_m2 11 rfl) rfl
theorem q299 : (Jvm.Cond.fieldLink "java/lang/String" (1053 : Nat) "jdk/internal/util/Preconditions" "SIOOBE_FORMATTER" "Ljava/util/function/BiFunction;") ∈ lw_all := lw_g (lw_at lw_m2 12 rfl) rfl
theorem q301 : (Jvm.Cond.methodLink "java/lang/String" (1062 : Nat) ({ cls := "jdk/internal/util/Preconditions", name := "checkFromToIndex", desc := "(IIILjava/util/function/BiFunction;)I" } : Jvm.MethodName)) ∈ lw_all := lw_g (lw_at lw_m2 14 rfl) rfl
theorem q314 : (Jvm.Cond.instanceMethod ({ cls := "java/lang/String", name := "length", desc := "()I" } : Jvm.MethodName)) ∈ lw_all := lw_g (lw_at lw_m2 27 rfl) rfl
theorem q315 : (Jvm.Cond.selects "java/lang/String" ({ cls := "java/lang/String", name := "length", desc := "()I" } : Jvm.MethodName) ({ cls := "java/lang/String", name := "length", desc := "()I" } : Jvm.MethodName)) ∈ lw_all := lw_g (lw_at lw_m2 28 rfl) rfl
theorem q316 : (Jvm.Cond.code ({ cls := "java/lang/String", name := "length", desc := "()I" } : Jvm.MethodName) prog_40_method_54_code (1 : Nat) (Option.some Jvm.ClassFile.FieldType.int)) ∈ lw_all := lw_g (lw_at lw_m2 29 rfl) rfl
theorem q317 : (Jvm.Cond.methodLink "java/lang/String" (335 : Nat) ({ cls := "java/lang/String", name := "coder", desc := "()B" } : Jvm.MethodName)) ∈ lw_all := lw_g (lw_at lw_m2 30 rfl) rfl
theorem q318 : (Jvm.Cond.instanceMethod ({ cls := "java/lang/String", name := "coder", desc := "()B" } : Jvm.MethodName)) ∈ lw_all := lw_g (lw_at lw_m2 31 rfl) rfl
theorem q319 : (Jvm.Cond.selects "java/lang/String" ({ cls := "java/lang/String", name := "coder", desc := "()B" } : Jvm.MethodName) ({ cls := "java/lang/String", name := "coder", desc := "()B" } : Jvm.MethodName)) ∈ lw_all := lw_g (lw_at lw_m2 32 rfl) rfl
theorem q320 : (Jvm.Cond.code ({ cls := "java/lang/String", name := "coder", desc := "()B" } : Jvm.MethodName) prog_40_method_152_code (1 : Nat) (Option.some Jvm.ClassFile.FieldType.byte)) ∈ lw_all := lw_g (lw_at lw_m2 33 rfl) rfl
theorem q321 : (Jvm.Cond.fieldLink "java/lang/String" (38 : Nat) "java/lang/String" "COMPACT_STRINGS" "Z") ∈ lw_all := lw_g (lw_at lw_m2 34 rfl) rfl
theorem q345 : (Jvm.Cond.static ({ cls := "java/lang/String", name := "checkBoundsOffCount", desc := "(III)I" } : Jvm.MethodName)) ∈ lw_all := lw_g (lw_at lw_m2 58 rfl) rfl
theorem q346 : (Jvm.Cond.code ({ cls := "java/lang/String", name := "checkBoundsOffCount", desc := "(III)I" } : Jvm.MethodName) prog_40_method_157_code (3 : Nat) (Option.some Jvm.ClassFile.FieldType.int)) ∈ lw_all := lw_g (lw_at lw_m2 59 rfl) rfl
theorem q347 : (Jvm.Cond.methodLink "java/lang/String" (1065 : Nat) ({ cls := "jdk/internal/util/Preconditions", name := "checkFromIndexSize", desc := "(IIILjava/util/function/BiFunction;)I" } : Jvm.MethodName)) ∈ lw_all := lw_g (lw_at lw_m2 60 rfl) rfl
theorem q351 : (Jvm.Cond.instanceMethod ({ cls := "java/lang/String", name := "getBytes", desc := "([BIB)V" } : Jvm.MethodName)) ∈ lw_all := lw_g (lw_at lw_m2 64 rfl) rfl
theorem q352 : (Jvm.Cond.selects "java/lang/String" ({ cls := "java/lang/String", name := "getBytes", desc := "([BIB)V" } : Jvm.MethodName) ({ cls := "java/lang/String", name := "getBytes", desc := "([BIB)V" } : Jvm.MethodName)) ∈ lw_all := lw_g (lw_at lw_m2 65 rfl) rfl
theorem q353 : (Jvm.Cond.code ({ cls := "java/lang/String", name := "getBytes", desc := "([BIB)V" } : Jvm.MethodName) prog_40_method_147_code (4 : Nat) (Option.none : Option Jvm.ClassFile.FieldType)) ∈ lw_all := lw_g (lw_at lw_m2 66 rfl) rfl
theorem q354 : (Jvm.Cond.methodLink "java/lang/String" (212 : Nat) ({ cls := "java/lang/System", name := "arraycopy", desc := "(Ljava/lang/Object;ILjava/lang/Object;II)V" } : Jvm.MethodName)) ∈ lw_all := lw_g (lw_at lw_m2 67 rfl) rfl
theorem q355 : (Jvm.Cond.methodLink "java/lang/String" (106 : Nat) ({ cls := "java/lang/StringLatin1", name := "inflate", desc := "([BI[BII)V" } : Jvm.MethodName)) ∈ lw_all := lw_g (lw_at lw_m2 68 rfl) rfl
theorem q386 : (Jvm.Cond.instantiable "java/lang/String" (4 : Nat)) ∈ lw_all := lw_g (lw_at lw_m2 99 rfl) rfl
theorem q388 : (Jvm.Cond.instanceMethod ({ cls := "java/lang/String", name := "<init>", desc := "(Ljava/lang/StringBuilder;)V" } : Jvm.MethodName)) ∈ lw_all := lw_g (lw_at lw_m2 101 rfl) rfl
theorem q389 : (Jvm.Cond.code ({ cls := "java/lang/String", name := "<init>", desc := "(Ljava/lang/StringBuilder;)V" } : Jvm.MethodName) prog_40_method_53_code (2 : Nat) (Option.none : Option Jvm.ClassFile.FieldType)) ∈ lw_all := lw_g (lw_at lw_m2 102 rfl) rfl
theorem q390 : (Jvm.Cond.methodLink "java/lang/String" (489 : Nat) ({ cls := "java/lang/String", name := "<init>", desc := "(Ljava/lang/AbstractStringBuilder;Ljava/lang/Void;)V" } : Jvm.MethodName)) ∈ lw_all := lw_g (lw_at lw_m2 103 rfl) rfl
theorem q391 : (Jvm.Cond.instanceMethod ({ cls := "java/lang/String", name := "<init>", desc := "(Ljava/lang/AbstractStringBuilder;Ljava/lang/Void;)V" } : Jvm.MethodName)) ∈ lw_all := lw_g (lw_at lw_m2 104 rfl) rfl
theorem q392 : (Jvm.Cond.code ({ cls := "java/lang/String", name := "<init>", desc := "(Ljava/lang/AbstractStringBuilder;Ljava/lang/Void;)V" } : Jvm.MethodName) prog_40_method_150_code (5 : Nat) (Option.none : Option Jvm.ClassFile.FieldType)) ∈ lw_all := lw_g (lw_at lw_m2 105 rfl) rfl
theorem q393 : (Jvm.Cond.methodLink "java/lang/String" (1 : Nat) ({ cls := "java/lang/Object", name := "<init>", desc := "()V" } : Jvm.MethodName)) ∈ lw_all := lw_g (lw_at lw_m2 106 rfl) rfl
theorem q394 : (Jvm.Cond.methodLink "java/lang/String" (552 : Nat) ({ cls := "java/lang/AbstractStringBuilder", name := "getValue", desc := "()[B" } : Jvm.MethodName)) ∈ lw_all := lw_g (lw_at lw_m2 107 rfl) rfl
theorem q399 : (Jvm.Cond.methodLink "java/lang/String" (549 : Nat) ({ cls := "java/lang/AbstractStringBuilder", name := "length", desc := "()I" } : Jvm.MethodName)) ∈ lw_all := lw_g (lw_at lw_m2 112 rfl) rfl
theorem q407 : (Jvm.Cond.methodLink "java/lang/String" (1047 : Nat) ({ cls := "java/lang/AbstractStringBuilder", name := "isLatin1", desc := "()Z" } : Jvm.MethodName)) ∈ lw_all := lw_g (lw_at lw_m2 120 rfl) rfl
theorem q408 : (Jvm.Cond.methodLink "java/lang/String" (54 : Nat) ({ cls := "java/util/Arrays", name := "copyOfRange", desc := "([BII)[B" } : Jvm.MethodName)) ∈ lw_all := lw_g (lw_at lw_m2 121 rfl) rfl
theorem q449 : (Jvm.Cond.methodLink "java/lang/String" (1051 : Nat) ({ cls := "java/lang/StringUTF16", name := "compress", desc := "([BII)[B" } : Jvm.MethodName)) ∈ lw_all := lw_g (lw_at lw_m2 162 rfl) rfl
theorem q459 : (Jvm.Cond.methodLink "java/lang/String" (47 : Nat) ({ cls := "java/lang/StringUTF16", name := "coderFromArrayLen", desc := "([BI)B" } : Jvm.MethodName)) ∈ lw_all := lw_g (lw_at lw_m2 172 rfl) rfl
theorem q462 : (Jvm.Cond.fieldLink "java/lang/String" (9 : Nat) "java/lang/String" "value" "[B") ∈ lw_all := lw_g (lw_at lw_m2 175 rfl) rfl
theorem q463 : (Jvm.Cond.fieldLink "java/lang/String" (15 : Nat) "java/lang/String" "coder" "B") ∈ lw_all := lw_g (lw_at lw_m2 176 rfl) rfl
theorem q464 : (Jvm.Cond.laysFinal "java/lang/String" "java/lang/String" "value" "[B") ∈ lw_all := lw_g (lw_at lw_m2 177 rfl) rfl
theorem q465 : (Jvm.Cond.soleField "java/lang/String" "value") ∈ lw_all := lw_g (lw_at lw_m2 178 rfl) rfl
theorem q466 : (Jvm.Cond.laysFinal "java/lang/String" "java/lang/String" "coder" "B") ∈ lw_all := lw_g (lw_at lw_m2 179 rfl) rfl
theorem q467 : (Jvm.Cond.soleField "java/lang/String" "coder") ∈ lw_all := lw_g (lw_at lw_m2 180 rfl) rfl
theorem q468 : (Jvm.Cond.lays "java/lang/String" "java/lang/String" "hash" "I") ∈ lw_all := lw_g (lw_at lw_m2 181 rfl) rfl
theorem q469 : (Jvm.Cond.soleField "java/lang/String" "hash") ∈ lw_all := lw_g (lw_at lw_m2 182 rfl) rfl
theorem q470 : (Jvm.Cond.lays "java/lang/String" "java/lang/String" "hashIsZero" "Z") ∈ lw_all := lw_g (lw_at lw_m2 183 rfl) rfl
theorem q471 : (Jvm.Cond.soleField "java/lang/String" "hashIsZero") ∈ lw_all := lw_g (lw_at lw_m2 184 rfl) rfl
theorem q472 : (Jvm.Cond.superclass "java/lang/String" "java/lang/Object") ∈ lw_all := lw_g (lw_at lw_m2 185 rfl) rfl
theorem q842 : (Jvm.Cond.selects "java/lang/String" ({ cls := "java/lang/Object", name := "getClass", desc := "()Ljava/lang/Class;" } : Jvm.MethodName) ({ cls := "java/lang/Object", name := "getClass", desc := "()Ljava/lang/Class;" } : Jvm.MethodName)) ∈ lw_all := lw_g (lw_at lw_m4 75 rfl) rfl
theorem q1046 : (Jvm.Cond.static ({ cls := "java/lang/String", name := "checkIndex", desc := "(II)V" } : Jvm.MethodName)) ∈ lw_all := lw_g (lw_at lw_m5 39 rfl) rfl
theorem q1047 : (Jvm.Cond.code ({ cls := "java/lang/String", name := "checkIndex", desc := "(II)V" } : Jvm.MethodName) prog_40_method_155_code (2 : Nat) (Option.none : Option Jvm.ClassFile.FieldType)) ∈ lw_all := lw_g (lw_at lw_m5 40 rfl) rfl
theorem q1048 : (Jvm.Cond.methodLink "java/lang/String" (1059 : Nat) ({ cls := "jdk/internal/util/Preconditions", name := "checkIndex", desc := "(IILjava/util/function/BiFunction;)I" } : Jvm.MethodName)) ∈ lw_all := lw_g (lw_at lw_m5 41 rfl) rfl
theorem q2528 : (Jvm.Cond.instanceMethod ({ cls := "java/lang/String", name := "equals", desc := "(Ljava/lang/Object;)Z" } : Jvm.MethodName)) ∈ lw_all := lw_g (lw_at lw_m11 81 rfl) rfl
theorem q2529 : (Jvm.Cond.selects "java/lang/String" ({ cls := "java/lang/String", name := "equals", desc := "(Ljava/lang/Object;)Z" } : Jvm.MethodName) ({ cls := "java/lang/String", name := "equals", desc := "(Ljava/lang/Object;)Z" } : Jvm.MethodName)) ∈ lw_all := lw_g (lw_at lw_m11 82 rfl) rfl
theorem q2530 : (Jvm.Cond.code ({ cls := "java/lang/String", name := "equals", desc := "(Ljava/lang/Object;)Z" } : Jvm.MethodName) prog_40_method_66_code (3 : Nat) (Option.some Jvm.ClassFile.FieldType.boolean)) ∈ lw_all := lw_g (lw_at lw_m11 83 rfl) rfl
theorem q2531 : (Jvm.Cond.classLink "java/lang/String" (10 : Nat) "java/lang/String") ∈ lw_all := lw_g (lw_at lw_m11 84 rfl) rfl
theorem q2532 : (Jvm.Cond.methodLink "java/lang/String" (541 : Nat) ({ cls := "java/lang/StringLatin1", name := "equals", desc := "([B[B)Z" } : Jvm.MethodName)) ∈ lw_all := lw_g (lw_at lw_m11 85 rfl) rfl
theorem q2563 : (Jvm.Cond.castable "java/lang/String" "java/lang/Object") ∈ lw_tbl := lw_at lw_m11 116 rfl
theorem in_J10 : ∀ w ∈ wsJ100, w ∈ lw_all := lw_in wsJ100 [464, 466, 468, 470] (by decide +kernel) (by decide +kernel)

theorem q60 : (Jvm.Cond.initialized "java/lang/StringUTF16") ∈ lw_all := lw_g (lw_at lw_m1 13 rfl) rfl
theorem q215 : (Jvm.Cond.static ({ cls := "java/lang/StringUTF16", name := "newBytesFor", desc := "(I)[B" } : Jvm.MethodName)) ∈ lw_all := lw_g (lw_at lw_m1 168 rfl) rfl
theorem q216 : (Jvm.Cond.code ({ cls := "java/lang/StringUTF16", name := "newBytesFor", desc := "(I)[B" } : Jvm.MethodName) prog_43_method_2_code (1 : Nat) (Option.some (Jvm.ClassFile.FieldType.array Jvm.ClassFile.FieldType.byte))) ∈ lw_all := lw_g (lw_at lw_m1 169 rfl) rfl
theorem q217 : (Jvm.Cond.methodLink "java/lang/StringUTF16" (11 : Nat) ({ cls := "java/lang/StringUTF16", name := "newBytesLength", desc := "(I)I" } : Jvm.MethodName)) ∈ lw_all := lw_g (lw_at lw_m1 170 rfl) rfl
theorem q218 : (Jvm.Cond.static ({ cls := "java/lang/StringUTF16", name := "newBytesLength", desc := "(I)I" } : Jvm.MethodName)) ∈ lw_all := lw_g (lw_at lw_m1 171 rfl) rfl
theorem q219 : (Jvm.Cond.code ({ cls := "java/lang/StringUTF16", name := "newBytesLength", desc := "(I)I" } : Jvm.MethodName) prog_43_method_3_code (1 : Nat) (Option.some Jvm.ClassFile.FieldType.int)) ∈ lw_all := lw_g (lw_at lw_m1 172 rfl) rfl
theorem q220 : (Jvm.Cond.constant "java/lang/StringUTF16" (20 : Nat) (1073741823 : Int32)) ∈ lw_all := lw_g (lw_at lw_m1 173 rfl) rfl
theorem q288 : (Jvm.Cond.static ({ cls := "java/lang/StringUTF16", name := "putCharsAt", desc := "([BICCCC)I" } : Jvm.MethodName)) ∈ lw_all := lw_g (lw_at lw_m2 1 rfl) rfl
theorem q289 : (Jvm.Cond.code ({ cls := "java/lang/StringUTF16", name := "putCharsAt", desc := "([BICCCC)I" } : Jvm.MethodName) prog_43_method_81_code (7 : Nat) (Option.some Jvm.ClassFile.FieldType.int)) ∈ lw_all := lw_g (lw_at lw_m2 2 rfl) rfl
theorem q290 : (Jvm.Cond.methodLink "java/lang/StringUTF16" (96 : Nat) ({ cls := "java/lang/StringUTF16", name := "checkBoundsBeginEnd", desc := "(II[B)V" } : Jvm.MethodName)) ∈ lw_all := lw_g (lw_at lw_m2 3 rfl) rfl
theorem q291 : (Jvm.Cond.static ({ cls := "java/lang/StringUTF16", name := "checkBoundsBeginEnd", desc := "(II[B)V" } : Jvm.MethodName)) ∈ lw_all := lw_g (lw_at lw_m2 4 rfl) rfl
theorem q292 : (Jvm.Cond.code ({ cls := "java/lang/StringUTF16", name := "checkBoundsBeginEnd", desc := "(II[B)V" } : Jvm.MethodName) prog_43_method_93_code (3 : Nat) (Option.none : Option Jvm.ClassFile.FieldType)) ∈ lw_all := lw_g (lw_at lw_m2 5 rfl) rfl
theorem q293 : (Jvm.Cond.methodLink "java/lang/StringUTF16" (48 : Nat) ({ cls := "java/lang/StringUTF16", name := "length", desc := "([B)I" } : Jvm.MethodName)) ∈ lw_all := lw_g (lw_at lw_m2 6 rfl) rfl
theorem q294 : (Jvm.Cond.static ({ cls := "java/lang/StringUTF16", name := "length", desc := "([B)I" } : Jvm.MethodName)) ∈ lw_all := lw_g (lw_at lw_m2 7 rfl) rfl
theorem q295 : (Jvm.Cond.code ({ cls := "java/lang/StringUTF16", name := "length", desc := "([B)I" } : Jvm.MethodName) prog_43_method_6_code (1 : Nat) (Option.some Jvm.ClassFile.FieldType.int)) ∈ lw_all := lw_g (lw_at lw_m2 8 rfl) rfl
theorem q296 : (Jvm.Cond.methodLink "java/lang/StringUTF16" (241 : Nat) ({ cls := "java/lang/String", name := "checkBoundsBeginEnd", desc := "(III)V" } : Jvm.MethodName)) ∈ lw_all := lw_g (lw_at lw_m2 9 rfl) rfl
theorem q304 : (Jvm.Cond.methodLink "java/lang/StringUTF16" (111 : Nat) ({ cls := "java/lang/StringUTF16", name := "putChar", desc := "([BII)V" } : Jvm.MethodName)) ∈ lw_all := lw_g (lw_at lw_m2 17 rfl) rfl
theorem q305 : (Jvm.Cond.static ({ cls := "java/lang/StringUTF16", name := "putChar", desc := "([BII)V" } : Jvm.MethodName)) ∈ lw_all := lw_g (lw_at lw_m2 18 rfl) rfl
theorem q306 : (Jvm.Cond.code ({ cls := "java/lang/StringUTF16", name := "putChar", desc := "([BII)V" } : Jvm.MethodName) prog_43_method_4_code (3 : Nat) (Option.none : Option Jvm.ClassFile.FieldType)) ∈ lw_all := lw_g (lw_at lw_m2 19 rfl) rfl
theorem q307 : (Jvm.Cond.fieldLink "java/lang/StringUTF16" (44 : Nat) "java/lang/StringUTF16" "$assertionsDisabled" "Z") ∈ lw_all := lw_g (lw_at lw_m2 20 rfl) rfl
theorem q308 : (Jvm.Cond.laysStatic "java/lang/StringUTF16" "$assertionsDisabled" "Z") ∈ lw_tbl := lw_at lw_m2 21 rfl
theorem q309 : (Jvm.Cond.fieldLink "java/lang/StringUTF16" (59 : Nat) "java/lang/StringUTF16" "HI_BYTE_SHIFT" "I") ∈ lw_all := lw_g (lw_at lw_m2 22 rfl) rfl
theorem q310 : (Jvm.Cond.laysStatic "java/lang/StringUTF16" "HI_BYTE_SHIFT" "I") ∈ lw_tbl := lw_at lw_m2 23 rfl
theorem q311 : (Jvm.Cond.fieldLink "java/lang/StringUTF16" (63 : Nat) "java/lang/StringUTF16" "LO_BYTE_SHIFT" "I") ∈ lw_all := lw_g (lw_at lw_m2 24 rfl) rfl
theorem q312 : (Jvm.Cond.laysStatic "java/lang/StringUTF16" "LO_BYTE_SHIFT" "I") ∈ lw_tbl := lw_at lw_m2 25 rfl
theorem q339 : (Jvm.Cond.static ({ cls := "java/lang/StringUTF16", name := "inflate", desc := "([BI[BII)V" } : Jvm.MethodName)) ∈ lw_all := lw_g (lw_at lw_m2 52 rfl) rfl
theorem q340 : (Jvm.Cond.code ({ cls := "java/lang/StringUTF16", name := "inflate", desc := "([BI[BII)V" } : Jvm.MethodName) prog_43_method_86_code (6 : Nat) (Option.none : Option Jvm.ClassFile.FieldType)) ∈ lw_all := lw_g (lw_at lw_m2 53 rfl) rfl
theorem q341 : (Jvm.Cond.methodLink "java/lang/StringUTF16" (173 : Nat) ({ cls := "java/lang/StringUTF16", name := "checkBoundsOffCount", desc := "(II[B)V" } : Jvm.MethodName)) ∈ lw_all := lw_g (lw_at lw_m2 54 rfl) rfl
theorem q342 : (Jvm.Cond.static ({ cls := "java/lang/StringUTF16", name := "checkBoundsOffCount", desc := "(II[B)V" } : Jvm.MethodName)) ∈ lw_all := lw_g (lw_at lw_m2 55 rfl) rfl
theorem q343 : (Jvm.Cond.code ({ cls := "java/lang/StringUTF16", name := "checkBoundsOffCount", desc := "(II[B)V" } : Jvm.MethodName) prog_43_method_94_code (3 : Nat) (Option.none : Option Jvm.ClassFile.FieldType)) ∈ lw_all := lw_g (lw_at lw_m2 56 rfl) rfl
theorem q344 : (Jvm.Cond.methodLink "java/lang/StringUTF16" (419 : Nat) ({ cls := "java/lang/String", name := "checkBoundsOffCount", desc := "(III)I" } : Jvm.MethodName)) ∈ lw_all := lw_g (lw_at lw_m2 57 rfl) rfl
theorem q374 : (Jvm.Cond.static ({ cls := "java/lang/StringUTF16", name := "getChars", desc := "(III[B)I" } : Jvm.MethodName)) ∈ lw_all := lw_g (lw_at lw_m2 87 rfl) rfl
theorem q375 : (Jvm.Cond.code ({ cls := "java/lang/StringUTF16", name := "getChars", desc := "(III[B)I" } : Jvm.MethodName) prog_43_method_77_code (5 : Nat) (Option.some Jvm.ClassFile.FieldType.int)) ∈ lw_all := lw_g (lw_at lw_m2 88 rfl) rfl
theorem q376 : (Jvm.Cond.methodLink "java/lang/StringUTF16" (393 : Nat) ({ cls := "java/lang/StringUTF16", name := "getChars", desc := "(II[B)I" } : Jvm.MethodName)) ∈ lw_all := lw_g (lw_at lw_m2 89 rfl) rfl
theorem q377 : (Jvm.Cond.static ({ cls := "java/lang/StringUTF16", name := "getChars", desc := "(II[B)I" } : Jvm.MethodName)) ∈ lw_all := lw_g (lw_at lw_m2 90 rfl) rfl
theorem q378 : (Jvm.Cond.code ({ cls := "java/lang/StringUTF16", name := "getChars", desc := "(II[B)I" } : Jvm.MethodName) prog_43_method_89_code (7 : Nat) (Option.some Jvm.ClassFile.FieldType.int)) ∈ lw_all := lw_g (lw_at lw_m2 91 rfl) rfl
theorem q379 : (Jvm.Cond.fieldLink "java/lang/StringUTF16" (403 : Nat) "java/lang/Integer" "DigitOnes" "[B") ∈ lw_all := lw_g (lw_at lw_m2 92 rfl) rfl
theorem q380 : (Jvm.Cond.fieldLink "java/lang/StringUTF16" (407 : Nat) "java/lang/Integer" "DigitTens" "[B") ∈ lw_all := lw_g (lw_at lw_m2 93 rfl) rfl
theorem q450 : (Jvm.Cond.static ({ cls := "java/lang/StringUTF16", name := "compress", desc := "([BII)[B" } : Jvm.MethodName)) ∈ lw_all := lw_g (lw_at lw_m2 163 rfl) rfl
theorem q451 : (Jvm.Cond.code ({ cls := "java/lang/StringUTF16", name := "compress", desc := "([BII)[B" } : Jvm.MethodName) prog_43_method_17_code (6 : Nat) (Option.some (Jvm.ClassFile.FieldType.array Jvm.ClassFile.FieldType.byte))) ∈ lw_all := lw_g (lw_at lw_m2 164 rfl) rfl
theorem q452 : (Jvm.Cond.methodLink "java/lang/StringUTF16" (123 : Nat) ({ cls := "java/lang/StringUTF16", name := "compress", desc := "([BI[BII)I" } : Jvm.MethodName)) ∈ lw_all := lw_g (lw_at lw_m2 165 rfl) rfl
theorem q453 : (Jvm.Cond.static ({ cls := "java/lang/StringUTF16", name := "compress", desc := "([BI[BII)I" } : Jvm.MethodName)) ∈ lw_all := lw_g (lw_at lw_m2 166 rfl) rfl
theorem q454 : (Jvm.Cond.code ({ cls := "java/lang/StringUTF16", name := "compress", desc := "([BI[BII)I" } : Jvm.MethodName) prog_43_method_22_code (7 : Nat) (Option.some Jvm.ClassFile.FieldType.int)) ∈ lw_all := lw_g (lw_at lw_m2 167 rfl) rfl
theorem q455 : (Jvm.Cond.methodLink "java/lang/StringUTF16" (71 : Nat) ({ cls := "java/lang/StringUTF16", name := "getChar", desc := "([BI)C" } : Jvm.MethodName)) ∈ lw_all := lw_g (lw_at lw_m2 168 rfl) rfl
theorem q456 : (Jvm.Cond.static ({ cls := "java/lang/StringUTF16", name := "getChar", desc := "([BI)C" } : Jvm.MethodName)) ∈ lw_all := lw_g (lw_at lw_m2 169 rfl) rfl
theorem q457 : (Jvm.Cond.code ({ cls := "java/lang/StringUTF16", name := "getChar", desc := "([BI)C" } : Jvm.MethodName) prog_43_method_5_code (2 : Nat) (Option.some Jvm.ClassFile.FieldType.char)) ∈ lw_all := lw_g (lw_at lw_m2 170 rfl) rfl
theorem q458 : (Jvm.Cond.methodLink "java/lang/StringUTF16" (126 : Nat) ({ cls := "java/util/Arrays", name := "copyOfRange", desc := "([BII)[B" } : Jvm.MethodName)) ∈ lw_all := lw_g (lw_at lw_m2 171 rfl) rfl
theorem q460 : (Jvm.Cond.static ({ cls := "java/lang/StringUTF16", name := "coderFromArrayLen", desc := "([BI)B" } : Jvm.MethodName)) ∈ lw_all := lw_g (lw_at lw_m2 173 rfl) rfl
theorem q461 : (Jvm.Cond.code ({ cls := "java/lang/StringUTF16", name := "coderFromArrayLen", desc := "([BI)B" } : Jvm.MethodName) prog_43_method_15_code (2 : Nat) (Option.some Jvm.ClassFile.FieldType.byte)) ∈ lw_all := lw_g (lw_at lw_m2 174 rfl) rfl
theorem q1040 : (Jvm.Cond.static ({ cls := "java/lang/StringUTF16", name := "putCharSB", desc := "([BII)V" } : Jvm.MethodName)) ∈ lw_all := lw_g (lw_at lw_m5 33 rfl) rfl
theorem q1041 : (Jvm.Cond.code ({ cls := "java/lang/StringUTF16", name := "putCharSB", desc := "([BII)V" } : Jvm.MethodName) prog_43_method_71_code (3 : Nat) (Option.none : Option Jvm.ClassFile.FieldType)) ∈ lw_all := lw_g (lw_at lw_m5 34 rfl) rfl
theorem q1042 : (Jvm.Cond.methodLink "java/lang/StringUTF16" (67 : Nat) ({ cls := "java/lang/StringUTF16", name := "checkIndex", desc := "(I[B)V" } : Jvm.MethodName)) ∈ lw_all := lw_g (lw_at lw_m5 35 rfl) rfl
theorem q1043 : (Jvm.Cond.static ({ cls := "java/lang/StringUTF16", name := "checkIndex", desc := "(I[B)V" } : Jvm.MethodName)) ∈ lw_all := lw_g (lw_at lw_m5 36 rfl) rfl
theorem q1044 : (Jvm.Cond.code ({ cls := "java/lang/StringUTF16", name := "checkIndex", desc := "(I[B)V" } : Jvm.MethodName) prog_43_method_91_code (2 : Nat) (Option.none : Option Jvm.ClassFile.FieldType)) ∈ lw_all := lw_g (lw_at lw_m5 37 rfl) rfl
theorem q1045 : (Jvm.Cond.methodLink "java/lang/StringUTF16" (414 : Nat) ({ cls := "java/lang/String", name := "checkIndex", desc := "(II)V" } : Jvm.MethodName)) ∈ lw_all := lw_g (lw_at lw_m5 38 rfl) rfl

/-! jdk/internal/util/ArraysSupport -/
set_option maxRecDepth 100000
def RJ12 : String := "jdk/internal/util/ArraysSupport"
abbrev cJ12_newLength : ByteArray := prog_82_method_27_code
def yJ12_newLength : MethodName := ⟨RJ12, "newLength", "(III)I"⟩
def dkwJ12_newLength_1 : List UInt8 := [184, 0, 201, 172]
abbrev dktJ12_newLength_1 : List UInt8 := dkwJ12_newLength_1 ++ []
def dkwJ12_newLength_0 : List UInt8 := [26, 27, 28, 184, 0, 194, 96, 62, 3, 29, 162, 0, 11, 29, 18, 200, 163, 0, 5, 29, 172, 26, 27]
abbrev dktJ12_newLength_0 : List UInt8 := dkwJ12_newLength_0 ++ dktJ12_newLength_1
theorem dksJ12_newLength_0 : cJ12_newLength.data.toList.drop 0 = dktJ12_newLength_0 := by decide +kernel
theorem dksJ12_newLength_1 : cJ12_newLength.data.toList.drop 23 = dktJ12_newLength_1 := dk_seg dksJ12_newLength_0 23 rfl rfl
theorem dJ12_newLength_0 : decode cJ12_newLength 0 = .ok (.iload_n 0, 1) := dk_26 (dk_at dksJ12_newLength_0 0 rfl rfl)
theorem dJ12_newLength_1 : decode cJ12_newLength 1 = .ok (.iload_n 1, 1) := dk_27 (dk_at dksJ12_newLength_0 1 rfl rfl)
theorem dJ12_newLength_2 : decode cJ12_newLength 2 = .ok (.iload_n 2, 1) := dk_28 (dk_at dksJ12_newLength_0 2 rfl rfl)
theorem dJ12_newLength_3 : decode cJ12_newLength 3 = .ok (.invokestatic 194, 3) := dk_184 0 194 (dk_at dksJ12_newLength_0 3 rfl rfl)
theorem dJ12_newLength_6 : decode cJ12_newLength 6 = .ok (.iadd, 1) := dk_96 (dk_at dksJ12_newLength_0 6 rfl rfl)
theorem dJ12_newLength_7 : decode cJ12_newLength 7 = .ok (.istore_n 3, 1) := dk_62 (dk_at dksJ12_newLength_0 7 rfl rfl)
theorem dJ12_newLength_8 : decode cJ12_newLength 8 = .ok (.iconst 0, 1) := dk_3 (dk_at dksJ12_newLength_0 8 rfl rfl)
theorem dJ12_newLength_9 : decode cJ12_newLength 9 = .ok (.iload_n 3, 1) := dk_29 (dk_at dksJ12_newLength_0 9 rfl rfl)
theorem dJ12_newLength_10 : decode cJ12_newLength 10 = .ok (.if_icmp .ge 11, 3) := dk_162 0 11 (dk_at dksJ12_newLength_0 10 rfl rfl)
theorem dJ12_newLength_13 : decode cJ12_newLength 13 = .ok (.iload_n 3, 1) := dk_29 (dk_at dksJ12_newLength_0 13 rfl rfl)
theorem dJ12_newLength_14 : decode cJ12_newLength 14 = .ok (.ldc 200, 2) := dk_18 200 (dk_at dksJ12_newLength_0 14 rfl rfl)
theorem dJ12_newLength_16 : decode cJ12_newLength 16 = .ok (.if_icmp .gt 5, 3) := dk_163 0 5 (dk_at dksJ12_newLength_0 16 rfl rfl)
theorem dJ12_newLength_19 : decode cJ12_newLength 19 = .ok (.iload_n 3, 1) := dk_29 (dk_at dksJ12_newLength_0 19 rfl rfl)
theorem dJ12_newLength_20 : decode cJ12_newLength 20 = .ok (.ireturn, 1) := dk_172 (dk_at dksJ12_newLength_0 20 rfl rfl)
theorem dJ12_newLength_21 : decode cJ12_newLength 21 = .ok (.iload_n 0, 1) := dk_26 (dk_at dksJ12_newLength_0 21 rfl rfl)
theorem dJ12_newLength_22 : decode cJ12_newLength 22 = .ok (.iload_n 1, 1) := dk_27 (dk_at dksJ12_newLength_0 22 rfl rfl)
theorem dJ12_newLength_23 : decode cJ12_newLength 23 = .ok (.invokestatic 201, 3) := dk_184 0 201 (dk_at dksJ12_newLength_1 0 rfl rfl)
theorem dJ12_newLength_26 : decode cJ12_newLength 26 = .ok (.ireturn, 1) := dk_172 (dk_at dksJ12_newLength_1 3 rfl rfl)
abbrev cJ12_hugeLength : ByteArray := prog_82_method_28_code
def yJ12_hugeLength : MethodName := ⟨RJ12, "hugeLength", "(II)I"⟩
def dkwJ12_hugeLength_2 : List UInt8 := [191, 28, 18, 200, 163, 0, 6, 18, 200, 172, 28, 172]
abbrev dktJ12_hugeLength_2 : List UInt8 := dkwJ12_hugeLength_2 ++ []
def dkwJ12_hugeLength_1 : List UInt8 := [26, 182, 0, 98, 18, 208, 182, 0, 94, 27, 182, 0, 98, 18, 210, 182, 0, 94, 182, 0, 101, 183, 0, 212]
abbrev dktJ12_hugeLength_1 : List UInt8 := dkwJ12_hugeLength_1 ++ dktJ12_hugeLength_2
def dkwJ12_hugeLength_0 : List UInt8 := [26, 27, 96, 61, 28, 156, 0, 44, 187, 0, 204, 89, 187, 0, 89, 89, 183, 0, 91, 18, 206, 182, 0, 94]
abbrev dktJ12_hugeLength_0 : List UInt8 := dkwJ12_hugeLength_0 ++ dktJ12_hugeLength_1
theorem dksJ12_hugeLength_0 : cJ12_hugeLength.data.toList.drop 0 = dktJ12_hugeLength_0 := by decide +kernel
theorem dksJ12_hugeLength_1 : cJ12_hugeLength.data.toList.drop 24 = dktJ12_hugeLength_1 := dk_seg dksJ12_hugeLength_0 24 rfl rfl
theorem dksJ12_hugeLength_2 : cJ12_hugeLength.data.toList.drop 48 = dktJ12_hugeLength_2 := dk_seg dksJ12_hugeLength_1 24 rfl rfl
theorem dJ12_hugeLength_0 : decode cJ12_hugeLength 0 = .ok (.iload_n 0, 1) := dk_26 (dk_at dksJ12_hugeLength_0 0 rfl rfl)
theorem dJ12_hugeLength_1 : decode cJ12_hugeLength 1 = .ok (.iload_n 1, 1) := dk_27 (dk_at dksJ12_hugeLength_0 1 rfl rfl)
theorem dJ12_hugeLength_2 : decode cJ12_hugeLength 2 = .ok (.iadd, 1) := dk_96 (dk_at dksJ12_hugeLength_0 2 rfl rfl)
theorem dJ12_hugeLength_3 : decode cJ12_hugeLength 3 = .ok (.istore_n 2, 1) := dk_61 (dk_at dksJ12_hugeLength_0 3 rfl rfl)
theorem dJ12_hugeLength_4 : decode cJ12_hugeLength 4 = .ok (.iload_n 2, 1) := dk_28 (dk_at dksJ12_hugeLength_0 4 rfl rfl)
theorem dJ12_hugeLength_5 : decode cJ12_hugeLength 5 = .ok (.ifCond .ge 44, 3) := dk_156 0 44 (dk_at dksJ12_hugeLength_0 5 rfl rfl)
theorem dJ12_hugeLength_8 : decode cJ12_hugeLength 8 = .ok (.new 204, 3) := dk_187 0 204 (dk_at dksJ12_hugeLength_0 8 rfl rfl)
theorem dJ12_hugeLength_11 : decode cJ12_hugeLength 11 = .ok (.dup, 1) := dk_89 (dk_at dksJ12_hugeLength_0 11 rfl rfl)
theorem dJ12_hugeLength_12 : decode cJ12_hugeLength 12 = .ok (.new 89, 3) := dk_187 0 89 (dk_at dksJ12_hugeLength_0 12 rfl rfl)
theorem dJ12_hugeLength_15 : decode cJ12_hugeLength 15 = .ok (.dup, 1) := dk_89 (dk_at dksJ12_hugeLength_0 15 rfl rfl)
theorem dJ12_hugeLength_16 : decode cJ12_hugeLength 16 = .ok (.invokespecial 91, 3) := dk_183 0 91 (dk_at dksJ12_hugeLength_0 16 rfl rfl)
theorem dJ12_hugeLength_19 : decode cJ12_hugeLength 19 = .ok (.ldc 206, 2) := dk_18 206 (dk_at dksJ12_hugeLength_0 19 rfl rfl)
theorem dJ12_hugeLength_21 : decode cJ12_hugeLength 21 = .ok (.invokevirtual 94, 3) := dk_182 0 94 (dk_at dksJ12_hugeLength_0 21 rfl rfl)
theorem dJ12_hugeLength_24 : decode cJ12_hugeLength 24 = .ok (.iload_n 0, 1) := dk_26 (dk_at dksJ12_hugeLength_1 0 rfl rfl)
theorem dJ12_hugeLength_25 : decode cJ12_hugeLength 25 = .ok (.invokevirtual 98, 3) := dk_182 0 98 (dk_at dksJ12_hugeLength_1 1 rfl rfl)
theorem dJ12_hugeLength_28 : decode cJ12_hugeLength 28 = .ok (.ldc 208, 2) := dk_18 208 (dk_at dksJ12_hugeLength_1 4 rfl rfl)
theorem dJ12_hugeLength_30 : decode cJ12_hugeLength 30 = .ok (.invokevirtual 94, 3) := dk_182 0 94 (dk_at dksJ12_hugeLength_1 6 rfl rfl)
theorem dJ12_hugeLength_33 : decode cJ12_hugeLength 33 = .ok (.iload_n 1, 1) := dk_27 (dk_at dksJ12_hugeLength_1 9 rfl rfl)
theorem dJ12_hugeLength_34 : decode cJ12_hugeLength 34 = .ok (.invokevirtual 98, 3) := dk_182 0 98 (dk_at dksJ12_hugeLength_1 10 rfl rfl)
theorem dJ12_hugeLength_37 : decode cJ12_hugeLength 37 = .ok (.ldc 210, 2) := dk_18 210 (dk_at dksJ12_hugeLength_1 13 rfl rfl)
theorem dJ12_hugeLength_39 : decode cJ12_hugeLength 39 = .ok (.invokevirtual 94, 3) := dk_182 0 94 (dk_at dksJ12_hugeLength_1 15 rfl rfl)
theorem dJ12_hugeLength_42 : decode cJ12_hugeLength 42 = .ok (.invokevirtual 101, 3) := dk_182 0 101 (dk_at dksJ12_hugeLength_1 18 rfl rfl)
theorem dJ12_hugeLength_45 : decode cJ12_hugeLength 45 = .ok (.invokespecial 212, 3) := dk_183 0 212 (dk_at dksJ12_hugeLength_1 21 rfl rfl)
theorem dJ12_hugeLength_48 : decode cJ12_hugeLength 48 = .ok (.athrow, 1) := dk_191 (dk_at dksJ12_hugeLength_2 0 rfl rfl)
theorem dJ12_hugeLength_49 : decode cJ12_hugeLength 49 = .ok (.iload_n 2, 1) := dk_28 (dk_at dksJ12_hugeLength_2 1 rfl rfl)
theorem dJ12_hugeLength_50 : decode cJ12_hugeLength 50 = .ok (.ldc 200, 2) := dk_18 200 (dk_at dksJ12_hugeLength_2 2 rfl rfl)
theorem dJ12_hugeLength_52 : decode cJ12_hugeLength 52 = .ok (.if_icmp .gt 6, 3) := dk_163 0 6 (dk_at dksJ12_hugeLength_2 4 rfl rfl)
theorem dJ12_hugeLength_55 : decode cJ12_hugeLength 55 = .ok (.ldc 200, 2) := dk_18 200 (dk_at dksJ12_hugeLength_2 7 rfl rfl)
theorem dJ12_hugeLength_57 : decode cJ12_hugeLength 57 = .ok (.ireturn, 1) := dk_172 (dk_at dksJ12_hugeLength_2 9 rfl rfl)
theorem dJ12_hugeLength_58 : decode cJ12_hugeLength 58 = .ok (.iload_n 2, 1) := dk_28 (dk_at dksJ12_hugeLength_2 10 rfl rfl)
theorem dJ12_hugeLength_59 : decode cJ12_hugeLength 59 = .ok (.ireturn, 1) := dk_172 (dk_at dksJ12_hugeLength_2 11 rfl rfl)
theorem q61 : (Jvm.Cond.initialized "jdk/internal/util/ArraysSupport") ∈ lw_all := lw_g (lw_at lw_m1 14 rfl) rfl
theorem q256 : (Jvm.Cond.static ({ cls := "jdk/internal/util/ArraysSupport", name := "newLength", desc := "(III)I" } : Jvm.MethodName)) ∈ lw_all := lw_g (lw_at lw_m1 209 rfl) rfl
theorem q257 : (Jvm.Cond.code ({ cls := "jdk/internal/util/ArraysSupport", name := "newLength", desc := "(III)I" } : Jvm.MethodName) prog_82_method_27_code (4 : Nat) (Option.some Jvm.ClassFile.FieldType.int)) ∈ lw_all := lw_g (lw_at lw_m1 210 rfl) rfl
theorem q258 : (Jvm.Cond.methodLink "jdk/internal/util/ArraysSupport" (194 : Nat) ({ cls := "java/lang/Math", name := "max", desc := "(II)I" } : Jvm.MethodName)) ∈ lw_all := lw_g (lw_at lw_m1 211 rfl) rfl
theorem q261 : (Jvm.Cond.constant "jdk/internal/util/ArraysSupport" (200 : Nat) (2147483639 : Int32)) ∈ lw_all := lw_g (lw_at lw_m1 214 rfl) rfl
theorem q262 : (Jvm.Cond.methodLink "jdk/internal/util/ArraysSupport" (201 : Nat) ({ cls := "jdk/internal/util/ArraysSupport", name := "hugeLength", desc := "(II)I" } : Jvm.MethodName)) ∈ lw_all := lw_g (lw_at lw_m1 215 rfl) rfl
theorem q263 : (Jvm.Cond.static ({ cls := "jdk/internal/util/ArraysSupport", name := "hugeLength", desc := "(II)I" } : Jvm.MethodName)) ∈ lw_all := lw_g (lw_at lw_m1 216 rfl) rfl
theorem q264 : (Jvm.Cond.code ({ cls := "jdk/internal/util/ArraysSupport", name := "hugeLength", desc := "(II)I" } : Jvm.MethodName) prog_82_method_28_code (3 : Nat) (Option.some Jvm.ClassFile.FieldType.int)) ∈ lw_all := lw_g (lw_at lw_m1 217 rfl) rfl

/-! java/lang/Math -/
set_option maxRecDepth 100000
def RJ13 : String := "java/lang/Math"
abbrev cJ13_max : ByteArray := prog_36_method_65_code
def yJ13_max : MethodName := ⟨RJ13, "max", "(II)I"⟩
def dkwJ13_max_0 : List UInt8 := [26, 27, 161, 0, 7, 26, 167, 0, 4, 27, 172]
abbrev dktJ13_max_0 : List UInt8 := dkwJ13_max_0 ++ []
theorem dksJ13_max_0 : cJ13_max.data.toList.drop 0 = dktJ13_max_0 := by decide +kernel
theorem dJ13_max_0 : decode cJ13_max 0 = .ok (.iload_n 0, 1) := dk_26 (dk_at dksJ13_max_0 0 rfl rfl)
theorem dJ13_max_1 : decode cJ13_max 1 = .ok (.iload_n 1, 1) := dk_27 (dk_at dksJ13_max_0 1 rfl rfl)
theorem dJ13_max_2 : decode cJ13_max 2 = .ok (.if_icmp .lt 7, 3) := dk_161 0 7 (dk_at dksJ13_max_0 2 rfl rfl)
theorem dJ13_max_5 : decode cJ13_max 5 = .ok (.iload_n 0, 1) := dk_26 (dk_at dksJ13_max_0 5 rfl rfl)
theorem dJ13_max_6 : decode cJ13_max 6 = .ok (.goto 4, 3) := dk_167 0 4 (dk_at dksJ13_max_0 6 rfl rfl)
theorem dJ13_max_9 : decode cJ13_max 9 = .ok (.iload_n 1, 1) := dk_27 (dk_at dksJ13_max_0 9 rfl rfl)
theorem dJ13_max_10 : decode cJ13_max 10 = .ok (.ireturn, 1) := dk_172 (dk_at dksJ13_max_0 10 rfl rfl)
abbrev cJ13_min : ByteArray := prog_36_method_69_code
def yJ13_min : MethodName := ⟨RJ13, "min", "(II)I"⟩
def dkwJ13_min_0 : List UInt8 := [26, 27, 163, 0, 7, 26, 167, 0, 4, 27, 172]
abbrev dktJ13_min_0 : List UInt8 := dkwJ13_min_0 ++ []
theorem dksJ13_min_0 : cJ13_min.data.toList.drop 0 = dktJ13_min_0 := by decide +kernel
theorem dJ13_min_0 : decode cJ13_min 0 = .ok (.iload_n 0, 1) := dk_26 (dk_at dksJ13_min_0 0 rfl rfl)
theorem dJ13_min_1 : decode cJ13_min 1 = .ok (.iload_n 1, 1) := dk_27 (dk_at dksJ13_min_0 1 rfl rfl)
theorem dJ13_min_2 : decode cJ13_min 2 = .ok (.if_icmp .gt 7, 3) := dk_163 0 7 (dk_at dksJ13_min_0 2 rfl rfl)
theorem dJ13_min_5 : decode cJ13_min 5 = .ok (.iload_n 0, 1) := dk_26 (dk_at dksJ13_min_0 5 rfl rfl)
theorem dJ13_min_6 : decode cJ13_min 6 = .ok (.goto 4, 3) := dk_167 0 4 (dk_at dksJ13_min_0 6 rfl rfl)
theorem dJ13_min_9 : decode cJ13_min 9 = .ok (.iload_n 1, 1) := dk_27 (dk_at dksJ13_min_0 9 rfl rfl)
theorem dJ13_min_10 : decode cJ13_min 10 = .ok (.ireturn, 1) := dk_172 (dk_at dksJ13_min_0 10 rfl rfl)
abbrev cJ13_abs : ByteArray := prog_36_method_59_code
def yJ13_abs : MethodName := ⟨RJ13, "abs", "(I)I"⟩
def dkwJ13_abs_0 : List UInt8 := [26, 156, 0, 8, 26, 116, 167, 0, 4, 26, 172]
abbrev dktJ13_abs_0 : List UInt8 := dkwJ13_abs_0 ++ []
theorem dksJ13_abs_0 : cJ13_abs.data.toList.drop 0 = dktJ13_abs_0 := by decide +kernel
theorem dJ13_abs_0 : decode cJ13_abs 0 = .ok (.iload_n 0, 1) := dk_26 (dk_at dksJ13_abs_0 0 rfl rfl)
theorem dJ13_abs_1 : decode cJ13_abs 1 = .ok (.ifCond .ge 8, 3) := dk_156 0 8 (dk_at dksJ13_abs_0 1 rfl rfl)
theorem dJ13_abs_4 : decode cJ13_abs 4 = .ok (.iload_n 0, 1) := dk_26 (dk_at dksJ13_abs_0 4 rfl rfl)
theorem dJ13_abs_5 : decode cJ13_abs 5 = .ok (.ineg, 1) := dk_116 (dk_at dksJ13_abs_0 5 rfl rfl)
theorem dJ13_abs_6 : decode cJ13_abs 6 = .ok (.goto 4, 3) := dk_167 0 4 (dk_at dksJ13_abs_0 6 rfl rfl)
theorem dJ13_abs_9 : decode cJ13_abs 9 = .ok (.iload_n 0, 1) := dk_26 (dk_at dksJ13_abs_0 9 rfl rfl)
theorem dJ13_abs_10 : decode cJ13_abs 10 = .ok (.ireturn, 1) := dk_172 (dk_at dksJ13_abs_0 10 rfl rfl)
theorem q62 : (Jvm.Cond.initialized "java/lang/Math") ∈ lw_all := lw_g (lw_at lw_m1 15 rfl) rfl
theorem q259 : (Jvm.Cond.static ({ cls := "java/lang/Math", name := "max", desc := "(II)I" } : Jvm.MethodName)) ∈ lw_all := lw_g (lw_at lw_m1 212 rfl) rfl
theorem q260 : (Jvm.Cond.code ({ cls := "java/lang/Math", name := "max", desc := "(II)I" } : Jvm.MethodName) prog_36_method_65_code (2 : Nat) (Option.some Jvm.ClassFile.FieldType.int)) ∈ lw_all := lw_g (lw_at lw_m1 213 rfl) rfl
theorem q277 : (Jvm.Cond.static ({ cls := "java/lang/Math", name := "min", desc := "(II)I" } : Jvm.MethodName)) ∈ lw_all := lw_g (lw_at lw_m1 230 rfl) rfl
theorem q278 : (Jvm.Cond.code ({ cls := "java/lang/Math", name := "min", desc := "(II)I" } : Jvm.MethodName) prog_36_method_69_code (2 : Nat) (Option.some Jvm.ClassFile.FieldType.int)) ∈ lw_all := lw_g (lw_at lw_m1 231 rfl) rfl
theorem q1362 : (Jvm.Cond.static ({ cls := "java/lang/Math", name := "abs", desc := "(I)I" } : Jvm.MethodName)) ∈ lw_all := lw_g (lw_at lw_m6 115 rfl) rfl
theorem q1363 : (Jvm.Cond.code ({ cls := "java/lang/Math", name := "abs", desc := "(I)I" } : Jvm.MethodName) prog_36_method_59_code (1 : Nat) (Option.some Jvm.ClassFile.FieldType.int)) ∈ lw_all := lw_g (lw_at lw_m6 116 rfl) rfl

/-! java/util/Arrays -/
set_option maxRecDepth 100000
def RJ14 : String := "java/util/Arrays"
abbrev cJ14_copyOf : ByteArray := prog_59_method_121_code
def yJ14_copyOf : MethodName := ⟨RJ14, "copyOf", "([BI)[B"⟩
def dkwJ14_copyOf_1 : List UInt8 := [27, 184, 1, 48, 184, 0, 150, 44, 176]
abbrev dktJ14_copyOf_1 : List UInt8 := dkwJ14_copyOf_1 ++ []
def dkwJ14_copyOf_0 : List UInt8 := [27, 42, 190, 160, 0, 11, 42, 182, 1, 54, 192, 1, 55, 176, 27, 188, 8, 77, 42, 3, 44, 3, 42, 190]
abbrev dktJ14_copyOf_0 : List UInt8 := dkwJ14_copyOf_0 ++ dktJ14_copyOf_1
theorem dksJ14_copyOf_0 : cJ14_copyOf.data.toList.drop 0 = dktJ14_copyOf_0 := by decide +kernel
theorem dksJ14_copyOf_1 : cJ14_copyOf.data.toList.drop 24 = dktJ14_copyOf_1 := dk_seg dksJ14_copyOf_0 24 rfl rfl
theorem dJ14_copyOf_0 : decode cJ14_copyOf 0 = .ok (.iload_n 1, 1) := dk_27 (dk_at dksJ14_copyOf_0 0 rfl rfl)
theorem dJ14_copyOf_1 : decode cJ14_copyOf 1 = .ok (.aload_n 0, 1) := dk_42 (dk_at dksJ14_copyOf_0 1 rfl rfl)
theorem dJ14_copyOf_2 : decode cJ14_copyOf 2 = .ok (.arraylength, 1) := dk_190 (dk_at dksJ14_copyOf_0 2 rfl rfl)
theorem dJ14_copyOf_3 : decode cJ14_copyOf 3 = .ok (.if_icmp .ne 11, 3) := dk_160 0 11 (dk_at dksJ14_copyOf_0 3 rfl rfl)
theorem dJ14_copyOf_6 : decode cJ14_copyOf 6 = .ok (.aload_n 0, 1) := dk_42 (dk_at dksJ14_copyOf_0 6 rfl rfl)
theorem dJ14_copyOf_7 : decode cJ14_copyOf 7 = .ok (.invokevirtual 310, 3) := dk_182 1 54 (dk_at dksJ14_copyOf_0 7 rfl rfl)
theorem dJ14_copyOf_10 : decode cJ14_copyOf 10 = .ok (.checkcast 311, 3) := dk_192 1 55 (dk_at dksJ14_copyOf_0 10 rfl rfl)
theorem dJ14_copyOf_13 : decode cJ14_copyOf 13 = .ok (.areturn, 1) := dk_176 (dk_at dksJ14_copyOf_0 13 rfl rfl)
theorem dJ14_copyOf_14 : decode cJ14_copyOf 14 = .ok (.iload_n 1, 1) := dk_27 (dk_at dksJ14_copyOf_0 14 rfl rfl)
theorem dJ14_copyOf_15 : decode cJ14_copyOf 15 = .ok (.newarray .byte, 2) := dk_188_8 (dk_at dksJ14_copyOf_0 15 rfl rfl)
theorem dJ14_copyOf_17 : decode cJ14_copyOf 17 = .ok (.astore_n 2, 1) := dk_77 (dk_at dksJ14_copyOf_0 17 rfl rfl)
theorem dJ14_copyOf_18 : decode cJ14_copyOf 18 = .ok (.aload_n 0, 1) := dk_42 (dk_at dksJ14_copyOf_0 18 rfl rfl)
theorem dJ14_copyOf_19 : decode cJ14_copyOf 19 = .ok (.iconst 0, 1) := dk_3 (dk_at dksJ14_copyOf_0 19 rfl rfl)
theorem dJ14_copyOf_20 : decode cJ14_copyOf 20 = .ok (.aload_n 2, 1) := dk_44 (dk_at dksJ14_copyOf_0 20 rfl rfl)
theorem dJ14_copyOf_21 : decode cJ14_copyOf 21 = .ok (.iconst 0, 1) := dk_3 (dk_at dksJ14_copyOf_0 21 rfl rfl)
theorem dJ14_copyOf_22 : decode cJ14_copyOf 22 = .ok (.aload_n 0, 1) := dk_42 (dk_at dksJ14_copyOf_0 22 rfl rfl)
theorem dJ14_copyOf_23 : decode cJ14_copyOf 23 = .ok (.arraylength, 1) := dk_190 (dk_at dksJ14_copyOf_0 23 rfl rfl)
theorem dJ14_copyOf_24 : decode cJ14_copyOf 24 = .ok (.iload_n 1, 1) := dk_27 (dk_at dksJ14_copyOf_1 0 rfl rfl)
theorem dJ14_copyOf_25 : decode cJ14_copyOf 25 = .ok (.invokestatic 304, 3) := dk_184 1 48 (dk_at dksJ14_copyOf_1 1 rfl rfl)
theorem dJ14_copyOf_28 : decode cJ14_copyOf 28 = .ok (.invokestatic 150, 3) := dk_184 0 150 (dk_at dksJ14_copyOf_1 4 rfl rfl)
theorem dJ14_copyOf_31 : decode cJ14_copyOf 31 = .ok (.aload_n 2, 1) := dk_44 (dk_at dksJ14_copyOf_1 7 rfl rfl)
theorem dJ14_copyOf_32 : decode cJ14_copyOf 32 = .ok (.areturn, 1) := dk_176 (dk_at dksJ14_copyOf_1 8 rfl rfl)
abbrev cJ14_copyOfRange : ByteArray := prog_59_method_132_code
def yJ14_copyOfRange : MethodName := ⟨RJ14, "copyOfRange", "([BII)[B"⟩
def dkwJ14_copyOfRange_1 : List UInt8 := [176]
abbrev dktJ14_copyOfRange_1 : List UInt8 := dkwJ14_copyOfRange_1 ++ []
def dkwJ14_copyOfRange_0 : List UInt8 := [27, 154, 0, 9, 28, 42, 190, 159, 0, 10, 42, 27, 28, 184, 1, 83, 176, 42, 182, 1, 54, 192, 1, 55]
abbrev dktJ14_copyOfRange_0 : List UInt8 := dkwJ14_copyOfRange_0 ++ dktJ14_copyOfRange_1
theorem dksJ14_copyOfRange_0 : cJ14_copyOfRange.data.toList.drop 0 = dktJ14_copyOfRange_0 := by decide +kernel
theorem dksJ14_copyOfRange_1 : cJ14_copyOfRange.data.toList.drop 24 = dktJ14_copyOfRange_1 := dk_seg dksJ14_copyOfRange_0 24 rfl rfl
theorem dJ14_copyOfRange_0 : decode cJ14_copyOfRange 0 = .ok (.iload_n 1, 1) := dk_27 (dk_at dksJ14_copyOfRange_0 0 rfl rfl)
theorem dJ14_copyOfRange_1 : decode cJ14_copyOfRange 1 = .ok (.ifCond .ne 9, 3) := dk_154 0 9 (dk_at dksJ14_copyOfRange_0 1 rfl rfl)
theorem dJ14_copyOfRange_4 : decode cJ14_copyOfRange 4 = .ok (.iload_n 2, 1) := dk_28 (dk_at dksJ14_copyOfRange_0 4 rfl rfl)
theorem dJ14_copyOfRange_5 : decode cJ14_copyOfRange 5 = .ok (.aload_n 0, 1) := dk_42 (dk_at dksJ14_copyOfRange_0 5 rfl rfl)
theorem dJ14_copyOfRange_6 : decode cJ14_copyOfRange 6 = .ok (.arraylength, 1) := dk_190 (dk_at dksJ14_copyOfRange_0 6 rfl rfl)
theorem dJ14_copyOfRange_7 : decode cJ14_copyOfRange 7 = .ok (.if_icmp .eq 10, 3) := dk_159 0 10 (dk_at dksJ14_copyOfRange_0 7 rfl rfl)
theorem dJ14_copyOfRange_10 : decode cJ14_copyOfRange 10 = .ok (.aload_n 0, 1) := dk_42 (dk_at dksJ14_copyOfRange_0 10 rfl rfl)
theorem dJ14_copyOfRange_11 : decode cJ14_copyOfRange 11 = .ok (.iload_n 1, 1) := dk_27 (dk_at dksJ14_copyOfRange_0 11 rfl rfl)
theorem dJ14_copyOfRange_12 : decode cJ14_copyOfRange 12 = .ok (.iload_n 2, 1) := dk_28 (dk_at dksJ14_copyOfRange_0 12 rfl rfl)
theorem dJ14_copyOfRange_13 : decode cJ14_copyOfRange 13 = .ok (.invokestatic 339, 3) := dk_184 1 83 (dk_at dksJ14_copyOfRange_0 13 rfl rfl)
theorem dJ14_copyOfRange_16 : decode cJ14_copyOfRange 16 = .ok (.areturn, 1) := dk_176 (dk_at dksJ14_copyOfRange_0 16 rfl rfl)
theorem dJ14_copyOfRange_17 : decode cJ14_copyOfRange 17 = .ok (.aload_n 0, 1) := dk_42 (dk_at dksJ14_copyOfRange_0 17 rfl rfl)
theorem dJ14_copyOfRange_18 : decode cJ14_copyOfRange 18 = .ok (.invokevirtual 310, 3) := dk_182 1 54 (dk_at dksJ14_copyOfRange_0 18 rfl rfl)
theorem dJ14_copyOfRange_21 : decode cJ14_copyOfRange 21 = .ok (.checkcast 311, 3) := dk_192 1 55 (dk_at dksJ14_copyOfRange_0 21 rfl rfl)
theorem dJ14_copyOfRange_24 : decode cJ14_copyOfRange 24 = .ok (.areturn, 1) := dk_176 (dk_at dksJ14_copyOfRange_1 0 rfl rfl)
abbrev cJ14_copyOfRangeByte : ByteArray := prog_59_method_133_code
def yJ14_copyOfRangeByte : MethodName := ⟨RJ14, "copyOfRangeByte", "([BII)[B"⟩
def dkwJ14_copyOfRangeByte_1 : List UInt8 := [184, 1, 48, 184, 0, 150, 25, 4, 176]
abbrev dktJ14_copyOfRangeByte_1 : List UInt8 := dkwJ14_copyOfRangeByte_1 ++ []
def dkwJ14_copyOfRangeByte_0 : List UInt8 := [27, 28, 184, 1, 87, 28, 27, 100, 62, 29, 188, 8, 58, 4, 42, 27, 25, 4, 3, 42, 190, 27, 100, 29]
abbrev dktJ14_copyOfRangeByte_0 : List UInt8 := dkwJ14_copyOfRangeByte_0 ++ dktJ14_copyOfRangeByte_1
theorem dksJ14_copyOfRangeByte_0 : cJ14_copyOfRangeByte.data.toList.drop 0 = dktJ14_copyOfRangeByte_0 := by decide +kernel
theorem dksJ14_copyOfRangeByte_1 : cJ14_copyOfRangeByte.data.toList.drop 24 = dktJ14_copyOfRangeByte_1 := dk_seg dksJ14_copyOfRangeByte_0 24 rfl rfl
theorem dJ14_copyOfRangeByte_0 : decode cJ14_copyOfRangeByte 0 = .ok (.iload_n 1, 1) := dk_27 (dk_at dksJ14_copyOfRangeByte_0 0 rfl rfl)
theorem dJ14_copyOfRangeByte_1 : decode cJ14_copyOfRangeByte 1 = .ok (.iload_n 2, 1) := dk_28 (dk_at dksJ14_copyOfRangeByte_0 1 rfl rfl)
theorem dJ14_copyOfRangeByte_2 : decode cJ14_copyOfRangeByte 2 = .ok (.invokestatic 343, 3) := dk_184 1 87 (dk_at dksJ14_copyOfRangeByte_0 2 rfl rfl)
theorem dJ14_copyOfRangeByte_5 : decode cJ14_copyOfRangeByte 5 = .ok (.iload_n 2, 1) := dk_28 (dk_at dksJ14_copyOfRangeByte_0 5 rfl rfl)
theorem dJ14_copyOfRangeByte_6 : decode cJ14_copyOfRangeByte 6 = .ok (.iload_n 1, 1) := dk_27 (dk_at dksJ14_copyOfRangeByte_0 6 rfl rfl)
theorem dJ14_copyOfRangeByte_7 : decode cJ14_copyOfRangeByte 7 = .ok (.isub, 1) := dk_100 (dk_at dksJ14_copyOfRangeByte_0 7 rfl rfl)
theorem dJ14_copyOfRangeByte_8 : decode cJ14_copyOfRangeByte 8 = .ok (.istore_n 3, 1) := dk_62 (dk_at dksJ14_copyOfRangeByte_0 8 rfl rfl)
theorem dJ14_copyOfRangeByte_9 : decode cJ14_copyOfRangeByte 9 = .ok (.iload_n 3, 1) := dk_29 (dk_at dksJ14_copyOfRangeByte_0 9 rfl rfl)
theorem dJ14_copyOfRangeByte_10 : decode cJ14_copyOfRangeByte 10 = .ok (.newarray .byte, 2) := dk_188_8 (dk_at dksJ14_copyOfRangeByte_0 10 rfl rfl)
theorem dJ14_copyOfRangeByte_12 : decode cJ14_copyOfRangeByte 12 = .ok (.astore 4, 2) := dk_58 4 (dk_at dksJ14_copyOfRangeByte_0 12 rfl rfl)
theorem dJ14_copyOfRangeByte_14 : decode cJ14_copyOfRangeByte 14 = .ok (.aload_n 0, 1) := dk_42 (dk_at dksJ14_copyOfRangeByte_0 14 rfl rfl)
theorem dJ14_copyOfRangeByte_15 : decode cJ14_copyOfRangeByte 15 = .ok (.iload_n 1, 1) := dk_27 (dk_at dksJ14_copyOfRangeByte_0 15 rfl rfl)
theorem dJ14_copyOfRangeByte_16 : decode cJ14_copyOfRangeByte 16 = .ok (.aload 4, 2) := dk_25 4 (dk_at dksJ14_copyOfRangeByte_0 16 rfl rfl)
theorem dJ14_copyOfRangeByte_18 : decode cJ14_copyOfRangeByte 18 = .ok (.iconst 0, 1) := dk_3 (dk_at dksJ14_copyOfRangeByte_0 18 rfl rfl)
theorem dJ14_copyOfRangeByte_19 : decode cJ14_copyOfRangeByte 19 = .ok (.aload_n 0, 1) := dk_42 (dk_at dksJ14_copyOfRangeByte_0 19 rfl rfl)
theorem dJ14_copyOfRangeByte_20 : decode cJ14_copyOfRangeByte 20 = .ok (.arraylength, 1) := dk_190 (dk_at dksJ14_copyOfRangeByte_0 20 rfl rfl)
theorem dJ14_copyOfRangeByte_21 : decode cJ14_copyOfRangeByte 21 = .ok (.iload_n 1, 1) := dk_27 (dk_at dksJ14_copyOfRangeByte_0 21 rfl rfl)
theorem dJ14_copyOfRangeByte_22 : decode cJ14_copyOfRangeByte 22 = .ok (.isub, 1) := dk_100 (dk_at dksJ14_copyOfRangeByte_0 22 rfl rfl)
theorem dJ14_copyOfRangeByte_23 : decode cJ14_copyOfRangeByte 23 = .ok (.iload_n 3, 1) := dk_29 (dk_at dksJ14_copyOfRangeByte_0 23 rfl rfl)
theorem dJ14_copyOfRangeByte_24 : decode cJ14_copyOfRangeByte 24 = .ok (.invokestatic 304, 3) := dk_184 1 48 (dk_at dksJ14_copyOfRangeByte_1 0 rfl rfl)
theorem dJ14_copyOfRangeByte_27 : decode cJ14_copyOfRangeByte 27 = .ok (.invokestatic 150, 3) := dk_184 0 150 (dk_at dksJ14_copyOfRangeByte_1 3 rfl rfl)
theorem dJ14_copyOfRangeByte_30 : decode cJ14_copyOfRangeByte 30 = .ok (.aload 4, 2) := dk_25 4 (dk_at dksJ14_copyOfRangeByte_1 6 rfl rfl)
theorem dJ14_copyOfRangeByte_32 : decode cJ14_copyOfRangeByte 32 = .ok (.areturn, 1) := dk_176 (dk_at dksJ14_copyOfRangeByte_1 8 rfl rfl)
abbrev cJ14_checkLength : ByteArray := prog_59_method_131_code
def yJ14_checkLength : MethodName := ⟨RJ14, "checkLength", "(II)V"⟩
def dkwJ14_checkLength_1 : List UInt8 := [182, 0, 50, 27, 182, 0, 54, 182, 0, 61, 183, 0, 65, 191, 177]
abbrev dktJ14_checkLength_1 : List UInt8 := dkwJ14_checkLength_1 ++ []
def dkwJ14_checkLength_0 : List UInt8 := [27, 26, 162, 0, 35, 187, 0, 43, 89, 187, 0, 45, 89, 183, 0, 47, 26, 182, 0, 54, 19, 1, 81]
abbrev dktJ14_checkLength_0 : List UInt8 := dkwJ14_checkLength_0 ++ dktJ14_checkLength_1
theorem dksJ14_checkLength_0 : cJ14_checkLength.data.toList.drop 0 = dktJ14_checkLength_0 := by decide +kernel
theorem dksJ14_checkLength_1 : cJ14_checkLength.data.toList.drop 23 = dktJ14_checkLength_1 := dk_seg dksJ14_checkLength_0 23 rfl rfl
theorem dJ14_checkLength_0 : decode cJ14_checkLength 0 = .ok (.iload_n 1, 1) := dk_27 (dk_at dksJ14_checkLength_0 0 rfl rfl)
theorem dJ14_checkLength_1 : decode cJ14_checkLength 1 = .ok (.iload_n 0, 1) := dk_26 (dk_at dksJ14_checkLength_0 1 rfl rfl)
theorem dJ14_checkLength_2 : decode cJ14_checkLength 2 = .ok (.if_icmp .ge 35, 3) := dk_162 0 35 (dk_at dksJ14_checkLength_0 2 rfl rfl)
theorem dJ14_checkLength_5 : decode cJ14_checkLength 5 = .ok (.new 43, 3) := dk_187 0 43 (dk_at dksJ14_checkLength_0 5 rfl rfl)
theorem dJ14_checkLength_8 : decode cJ14_checkLength 8 = .ok (.dup, 1) := dk_89 (dk_at dksJ14_checkLength_0 8 rfl rfl)
theorem dJ14_checkLength_9 : decode cJ14_checkLength 9 = .ok (.new 45, 3) := dk_187 0 45 (dk_at dksJ14_checkLength_0 9 rfl rfl)
theorem dJ14_checkLength_12 : decode cJ14_checkLength 12 = .ok (.dup, 1) := dk_89 (dk_at dksJ14_checkLength_0 12 rfl rfl)
theorem dJ14_checkLength_13 : decode cJ14_checkLength 13 = .ok (.invokespecial 47, 3) := dk_183 0 47 (dk_at dksJ14_checkLength_0 13 rfl rfl)
theorem dJ14_checkLength_16 : decode cJ14_checkLength 16 = .ok (.iload_n 0, 1) := dk_26 (dk_at dksJ14_checkLength_0 16 rfl rfl)
theorem dJ14_checkLength_17 : decode cJ14_checkLength 17 = .ok (.invokevirtual 54, 3) := dk_182 0 54 (dk_at dksJ14_checkLength_0 17 rfl rfl)
theorem dJ14_checkLength_20 : decode cJ14_checkLength 20 = .ok (.ldc_w 337, 3) := dk_19 1 81 (dk_at dksJ14_checkLength_0 20 rfl rfl)
theorem dJ14_checkLength_23 : decode cJ14_checkLength 23 = .ok (.invokevirtual 50, 3) := dk_182 0 50 (dk_at dksJ14_checkLength_1 0 rfl rfl)
theorem dJ14_checkLength_26 : decode cJ14_checkLength 26 = .ok (.iload_n 1, 1) := dk_27 (dk_at dksJ14_checkLength_1 3 rfl rfl)
theorem dJ14_checkLength_27 : decode cJ14_checkLength 27 = .ok (.invokevirtual 54, 3) := dk_182 0 54 (dk_at dksJ14_checkLength_1 4 rfl rfl)
theorem dJ14_checkLength_30 : decode cJ14_checkLength 30 = .ok (.invokevirtual 61, 3) := dk_182 0 61 (dk_at dksJ14_checkLength_1 7 rfl rfl)
theorem dJ14_checkLength_33 : decode cJ14_checkLength 33 = .ok (.invokespecial 65, 3) := dk_183 0 65 (dk_at dksJ14_checkLength_1 10 rfl rfl)
theorem dJ14_checkLength_36 : decode cJ14_checkLength 36 = .ok (.athrow, 1) := dk_191 (dk_at dksJ14_checkLength_1 13 rfl rfl)
theorem dJ14_checkLength_37 : decode cJ14_checkLength 37 = .ok (.return_, 1) := dk_177 (dk_at dksJ14_checkLength_1 14 rfl rfl)
abbrev cJ14_copyOf_2 : ByteArray := prog_59_method_119_code
def yJ14_copyOf_2 : MethodName := ⟨RJ14, "copyOf", "([Ljava/lang/Object;I)[Ljava/lang/Object;"⟩
def dkwJ14_copyOf_2_0 : List UInt8 := [42, 27, 42, 182, 0, 86, 184, 1, 44, 176]
abbrev dktJ14_copyOf_2_0 : List UInt8 := dkwJ14_copyOf_2_0 ++ []
theorem dksJ14_copyOf_2_0 : cJ14_copyOf_2.data.toList.drop 0 = dktJ14_copyOf_2_0 := by decide +kernel
theorem dJ14_copyOf_2_0 : decode cJ14_copyOf_2 0 = .ok (.aload_n 0, 1) := dk_42 (dk_at dksJ14_copyOf_2_0 0 rfl rfl)
theorem dJ14_copyOf_2_1 : decode cJ14_copyOf_2 1 = .ok (.iload_n 1, 1) := dk_27 (dk_at dksJ14_copyOf_2_0 1 rfl rfl)
theorem dJ14_copyOf_2_2 : decode cJ14_copyOf_2 2 = .ok (.aload_n 0, 1) := dk_42 (dk_at dksJ14_copyOf_2_0 2 rfl rfl)
theorem dJ14_copyOf_2_3 : decode cJ14_copyOf_2 3 = .ok (.invokevirtual 86, 3) := dk_182 0 86 (dk_at dksJ14_copyOf_2_0 3 rfl rfl)
theorem dJ14_copyOf_2_6 : decode cJ14_copyOf_2 6 = .ok (.invokestatic 300, 3) := dk_184 1 44 (dk_at dksJ14_copyOf_2_0 6 rfl rfl)
theorem dJ14_copyOf_2_9 : decode cJ14_copyOf_2 9 = .ok (.areturn, 1) := dk_176 (dk_at dksJ14_copyOf_2_0 9 rfl rfl)
abbrev cJ14_copyOf_3 : ByteArray := prog_59_method_120_code
def yJ14_copyOf_3 : MethodName := ⟨RJ14, "copyOf", "([Ljava/lang/Object;ILjava/lang/Class;)[Ljava/lang/Object;"⟩
def dkwJ14_copyOf_3_1 : List UInt8 := [78, 42, 3, 45, 3, 42, 190, 27, 184, 1, 48, 184, 0, 150, 45, 176]
abbrev dktJ14_copyOf_3_1 : List UInt8 := dkwJ14_copyOf_3_1 ++ []
def dkwJ14_copyOf_3_0 : List UInt8 := [44, 18, 110, 166, 0, 10, 27, 189, 0, 2, 167, 0, 14, 44, 182, 0, 90, 27, 184, 0, 95, 192, 0, 110]
abbrev dktJ14_copyOf_3_0 : List UInt8 := dkwJ14_copyOf_3_0 ++ dktJ14_copyOf_3_1
theorem dksJ14_copyOf_3_0 : cJ14_copyOf_3.data.toList.drop 0 = dktJ14_copyOf_3_0 := by decide +kernel
theorem dksJ14_copyOf_3_1 : cJ14_copyOf_3.data.toList.drop 24 = dktJ14_copyOf_3_1 := dk_seg dksJ14_copyOf_3_0 24 rfl rfl
theorem dJ14_copyOf_3_0 : decode cJ14_copyOf_3 0 = .ok (.aload_n 2, 1) := dk_44 (dk_at dksJ14_copyOf_3_0 0 rfl rfl)
theorem dJ14_copyOf_3_1 : decode cJ14_copyOf_3 1 = .ok (.ldc 110, 2) := dk_18 110 (dk_at dksJ14_copyOf_3_0 1 rfl rfl)
theorem dJ14_copyOf_3_3 : decode cJ14_copyOf_3 3 = .ok (.if_acmp .ne 10, 3) := dk_166 0 10 (dk_at dksJ14_copyOf_3_0 3 rfl rfl)
theorem dJ14_copyOf_3_6 : decode cJ14_copyOf_3 6 = .ok (.iload_n 1, 1) := dk_27 (dk_at dksJ14_copyOf_3_0 6 rfl rfl)
theorem dJ14_copyOf_3_7 : decode cJ14_copyOf_3 7 = .ok (.anewarray 2, 3) := dk_189 0 2 (dk_at dksJ14_copyOf_3_0 7 rfl rfl)
theorem dJ14_copyOf_3_10 : decode cJ14_copyOf_3 10 = .ok (.goto 14, 3) := dk_167 0 14 (dk_at dksJ14_copyOf_3_0 10 rfl rfl)
theorem dJ14_copyOf_3_13 : decode cJ14_copyOf_3 13 = .ok (.aload_n 2, 1) := dk_44 (dk_at dksJ14_copyOf_3_0 13 rfl rfl)
theorem dJ14_copyOf_3_14 : decode cJ14_copyOf_3 14 = .ok (.invokevirtual 90, 3) := dk_182 0 90 (dk_at dksJ14_copyOf_3_0 14 rfl rfl)
theorem dJ14_copyOf_3_17 : decode cJ14_copyOf_3 17 = .ok (.iload_n 1, 1) := dk_27 (dk_at dksJ14_copyOf_3_0 17 rfl rfl)
theorem dJ14_copyOf_3_18 : decode cJ14_copyOf_3 18 = .ok (.invokestatic 95, 3) := dk_184 0 95 (dk_at dksJ14_copyOf_3_0 18 rfl rfl)
theorem dJ14_copyOf_3_21 : decode cJ14_copyOf_3 21 = .ok (.checkcast 110, 3) := dk_192 0 110 (dk_at dksJ14_copyOf_3_0 21 rfl rfl)
theorem dJ14_copyOf_3_24 : decode cJ14_copyOf_3 24 = .ok (.astore_n 3, 1) := dk_78 (dk_at dksJ14_copyOf_3_1 0 rfl rfl)
theorem dJ14_copyOf_3_25 : decode cJ14_copyOf_3 25 = .ok (.aload_n 0, 1) := dk_42 (dk_at dksJ14_copyOf_3_1 1 rfl rfl)
theorem dJ14_copyOf_3_26 : decode cJ14_copyOf_3 26 = .ok (.iconst 0, 1) := dk_3 (dk_at dksJ14_copyOf_3_1 2 rfl rfl)
theorem dJ14_copyOf_3_27 : decode cJ14_copyOf_3 27 = .ok (.aload_n 3, 1) := dk_45 (dk_at dksJ14_copyOf_3_1 3 rfl rfl)
theorem dJ14_copyOf_3_28 : decode cJ14_copyOf_3 28 = .ok (.iconst 0, 1) := dk_3 (dk_at dksJ14_copyOf_3_1 4 rfl rfl)
theorem dJ14_copyOf_3_29 : decode cJ14_copyOf_3 29 = .ok (.aload_n 0, 1) := dk_42 (dk_at dksJ14_copyOf_3_1 5 rfl rfl)
theorem dJ14_copyOf_3_30 : decode cJ14_copyOf_3 30 = .ok (.arraylength, 1) := dk_190 (dk_at dksJ14_copyOf_3_1 6 rfl rfl)
theorem dJ14_copyOf_3_31 : decode cJ14_copyOf_3 31 = .ok (.iload_n 1, 1) := dk_27 (dk_at dksJ14_copyOf_3_1 7 rfl rfl)
theorem dJ14_copyOf_3_32 : decode cJ14_copyOf_3 32 = .ok (.invokestatic 304, 3) := dk_184 1 48 (dk_at dksJ14_copyOf_3_1 8 rfl rfl)
theorem dJ14_copyOf_3_35 : decode cJ14_copyOf_3 35 = .ok (.invokestatic 150, 3) := dk_184 0 150 (dk_at dksJ14_copyOf_3_1 11 rfl rfl)
theorem dJ14_copyOf_3_38 : decode cJ14_copyOf_3 38 = .ok (.aload_n 3, 1) := dk_45 (dk_at dksJ14_copyOf_3_1 14 rfl rfl)
theorem dJ14_copyOf_3_39 : decode cJ14_copyOf_3 39 = .ok (.areturn, 1) := dk_176 (dk_at dksJ14_copyOf_3_1 15 rfl rfl)
abbrev cJ14_copyOf_4 : ByteArray := prog_59_method_124_code
def yJ14_copyOf_4 : MethodName := ⟨RJ14, "copyOf", "([JI)[J"⟩
def dkwJ14_copyOf_4_1 : List UInt8 := [27, 184, 1, 48, 184, 0, 150, 44, 176]
abbrev dktJ14_copyOf_4_1 : List UInt8 := dkwJ14_copyOf_4_1 ++ []
def dkwJ14_copyOf_4_0 : List UInt8 := [27, 42, 190, 160, 0, 11, 42, 182, 1, 63, 192, 1, 64, 176, 27, 188, 11, 77, 42, 3, 44, 3, 42, 190]
abbrev dktJ14_copyOf_4_0 : List UInt8 := dkwJ14_copyOf_4_0 ++ dktJ14_copyOf_4_1
theorem dksJ14_copyOf_4_0 : cJ14_copyOf_4.data.toList.drop 0 = dktJ14_copyOf_4_0 := by decide +kernel
theorem dksJ14_copyOf_4_1 : cJ14_copyOf_4.data.toList.drop 24 = dktJ14_copyOf_4_1 := dk_seg dksJ14_copyOf_4_0 24 rfl rfl
theorem dJ14_copyOf_4_0 : decode cJ14_copyOf_4 0 = .ok (.iload_n 1, 1) := dk_27 (dk_at dksJ14_copyOf_4_0 0 rfl rfl)
theorem dJ14_copyOf_4_1 : decode cJ14_copyOf_4 1 = .ok (.aload_n 0, 1) := dk_42 (dk_at dksJ14_copyOf_4_0 1 rfl rfl)
theorem dJ14_copyOf_4_2 : decode cJ14_copyOf_4 2 = .ok (.arraylength, 1) := dk_190 (dk_at dksJ14_copyOf_4_0 2 rfl rfl)
theorem dJ14_copyOf_4_3 : decode cJ14_copyOf_4 3 = .ok (.if_icmp .ne 11, 3) := dk_160 0 11 (dk_at dksJ14_copyOf_4_0 3 rfl rfl)
theorem dJ14_copyOf_4_6 : decode cJ14_copyOf_4 6 = .ok (.aload_n 0, 1) := dk_42 (dk_at dksJ14_copyOf_4_0 6 rfl rfl)
theorem dJ14_copyOf_4_7 : decode cJ14_copyOf_4 7 = .ok (.invokevirtual 319, 3) := dk_182 1 63 (dk_at dksJ14_copyOf_4_0 7 rfl rfl)
theorem dJ14_copyOf_4_10 : decode cJ14_copyOf_4 10 = .ok (.checkcast 320, 3) := dk_192 1 64 (dk_at dksJ14_copyOf_4_0 10 rfl rfl)
theorem dJ14_copyOf_4_13 : decode cJ14_copyOf_4 13 = .ok (.areturn, 1) := dk_176 (dk_at dksJ14_copyOf_4_0 13 rfl rfl)
theorem dJ14_copyOf_4_14 : decode cJ14_copyOf_4 14 = .ok (.iload_n 1, 1) := dk_27 (dk_at dksJ14_copyOf_4_0 14 rfl rfl)
theorem dJ14_copyOf_4_15 : decode cJ14_copyOf_4 15 = .ok (.newarray .long, 2) := dk_188_11 (dk_at dksJ14_copyOf_4_0 15 rfl rfl)
theorem dJ14_copyOf_4_17 : decode cJ14_copyOf_4 17 = .ok (.astore_n 2, 1) := dk_77 (dk_at dksJ14_copyOf_4_0 17 rfl rfl)
theorem dJ14_copyOf_4_18 : decode cJ14_copyOf_4 18 = .ok (.aload_n 0, 1) := dk_42 (dk_at dksJ14_copyOf_4_0 18 rfl rfl)
theorem dJ14_copyOf_4_19 : decode cJ14_copyOf_4 19 = .ok (.iconst 0, 1) := dk_3 (dk_at dksJ14_copyOf_4_0 19 rfl rfl)
theorem dJ14_copyOf_4_20 : decode cJ14_copyOf_4 20 = .ok (.aload_n 2, 1) := dk_44 (dk_at dksJ14_copyOf_4_0 20 rfl rfl)
theorem dJ14_copyOf_4_21 : decode cJ14_copyOf_4 21 = .ok (.iconst 0, 1) := dk_3 (dk_at dksJ14_copyOf_4_0 21 rfl rfl)
theorem dJ14_copyOf_4_22 : decode cJ14_copyOf_4 22 = .ok (.aload_n 0, 1) := dk_42 (dk_at dksJ14_copyOf_4_0 22 rfl rfl)
theorem dJ14_copyOf_4_23 : decode cJ14_copyOf_4 23 = .ok (.arraylength, 1) := dk_190 (dk_at dksJ14_copyOf_4_0 23 rfl rfl)
theorem dJ14_copyOf_4_24 : decode cJ14_copyOf_4 24 = .ok (.iload_n 1, 1) := dk_27 (dk_at dksJ14_copyOf_4_1 0 rfl rfl)
theorem dJ14_copyOf_4_25 : decode cJ14_copyOf_4 25 = .ok (.invokestatic 304, 3) := dk_184 1 48 (dk_at dksJ14_copyOf_4_1 1 rfl rfl)
theorem dJ14_copyOf_4_28 : decode cJ14_copyOf_4 28 = .ok (.invokestatic 150, 3) := dk_184 0 150 (dk_at dksJ14_copyOf_4_1 4 rfl rfl)
theorem dJ14_copyOf_4_31 : decode cJ14_copyOf_4 31 = .ok (.aload_n 2, 1) := dk_44 (dk_at dksJ14_copyOf_4_1 7 rfl rfl)
theorem dJ14_copyOf_4_32 : decode cJ14_copyOf_4 32 = .ok (.areturn, 1) := dk_176 (dk_at dksJ14_copyOf_4_1 8 rfl rfl)
theorem q63 : (Jvm.Cond.initialized "java/util/Arrays") ∈ lw_all := lw_g (lw_at lw_m1 16 rfl) rfl
theorem q267 : (Jvm.Cond.static ({ cls := "java/util/Arrays", name := "copyOf", desc := "([BI)[B" } : Jvm.MethodName)) ∈ lw_all := lw_g (lw_at lw_m1 220 rfl) rfl
theorem q268 : (Jvm.Cond.code ({ cls := "java/util/Arrays", name := "copyOf", desc := "([BI)[B" } : Jvm.MethodName) prog_59_method_121_code (3 : Nat) (Option.some (Jvm.ClassFile.FieldType.array Jvm.ClassFile.FieldType.byte))) ∈ lw_all := lw_g (lw_at lw_m1 221 rfl) rfl
theorem q269 : (Jvm.Cond.methodLink "java/util/Arrays" (310 : Nat) ({ cls := "[B", name := "clone", desc := "()Ljava/lang/Object;" } : Jvm.MethodName)) ∈ lw_all := lw_g (lw_at lw_m1 222 rfl) rfl
theorem q275 : (Jvm.Cond.classLink "java/util/Arrays" (311 : Nat) "[B") ∈ lw_all := lw_g (lw_at lw_m1 228 rfl) rfl
theorem q276 : (Jvm.Cond.methodLink "java/util/Arrays" (304 : Nat) ({ cls := "java/lang/Math", name := "min", desc := "(II)I" } : Jvm.MethodName)) ∈ lw_all := lw_g (lw_at lw_m1 229 rfl) rfl
theorem q279 : (Jvm.Cond.methodLink "java/util/Arrays" (150 : Nat) ({ cls := "java/lang/System", name := "arraycopy", desc := "(Ljava/lang/Object;ILjava/lang/Object;II)V" } : Jvm.MethodName)) ∈ lw_all := lw_g (lw_at lw_m1 232 rfl) rfl
theorem q409 : (Jvm.Cond.static ({ cls := "java/util/Arrays", name := "copyOfRange", desc := "([BII)[B" } : Jvm.MethodName)) ∈ lw_all := lw_g (lw_at lw_m2 122 rfl) rfl
theorem q410 : (Jvm.Cond.code ({ cls := "java/util/Arrays", name := "copyOfRange", desc := "([BII)[B" } : Jvm.MethodName) prog_59_method_132_code (3 : Nat) (Option.some (Jvm.ClassFile.FieldType.array Jvm.ClassFile.FieldType.byte))) ∈ lw_all := lw_g (lw_at lw_m2 123 rfl) rfl
theorem q411 : (Jvm.Cond.methodLink "java/util/Arrays" (339 : Nat) ({ cls := "java/util/Arrays", name := "copyOfRangeByte", desc := "([BII)[B" } : Jvm.MethodName)) ∈ lw_all := lw_g (lw_at lw_m2 124 rfl) rfl
theorem q412 : (Jvm.Cond.static ({ cls := "java/util/Arrays", name := "copyOfRangeByte", desc := "([BII)[B" } : Jvm.MethodName)) ∈ lw_all := lw_g (lw_at lw_m2 125 rfl) rfl
theorem q413 : (Jvm.Cond.code ({ cls := "java/util/Arrays", name := "copyOfRangeByte", desc := "([BII)[B" } : Jvm.MethodName) prog_59_method_133_code (5 : Nat) (Option.some (Jvm.ClassFile.FieldType.array Jvm.ClassFile.FieldType.byte))) ∈ lw_all := lw_g (lw_at lw_m2 126 rfl) rfl
theorem q414 : (Jvm.Cond.methodLink "java/util/Arrays" (343 : Nat) ({ cls := "java/util/Arrays", name := "checkLength", desc := "(II)V" } : Jvm.MethodName)) ∈ lw_all := lw_g (lw_at lw_m2 127 rfl) rfl
theorem q415 : (Jvm.Cond.static ({ cls := "java/util/Arrays", name := "checkLength", desc := "(II)V" } : Jvm.MethodName)) ∈ lw_all := lw_g (lw_at lw_m2 128 rfl) rfl
theorem q416 : (Jvm.Cond.code ({ cls := "java/util/Arrays", name := "checkLength", desc := "(II)V" } : Jvm.MethodName) prog_59_method_131_code (2 : Nat) (Option.none : Option Jvm.ClassFile.FieldType)) ∈ lw_all := lw_g (lw_at lw_m2 129 rfl) rfl
theorem q417 : (Jvm.Cond.classLink "java/util/Arrays" (43 : Nat) "java/lang/IllegalArgumentException") ∈ lw_all := lw_g (lw_at lw_m2 130 rfl) rfl
theorem q418 : (Jvm.Cond.classLink "java/util/Arrays" (45 : Nat) "java/lang/StringBuilder") ∈ lw_all := lw_g (lw_at lw_m2 131 rfl) rfl
theorem q419 : (Jvm.Cond.methodLink "java/util/Arrays" (47 : Nat) ({ cls := "java/lang/StringBuilder", name := "<init>", desc := "()V" } : Jvm.MethodName)) ∈ lw_all := lw_g (lw_at lw_m2 132 rfl) rfl
theorem q420 : (Jvm.Cond.methodLink "java/util/Arrays" (54 : Nat) ({ cls := "java/lang/StringBuilder", name := "append", desc := "(I)Ljava/lang/StringBuilder;" } : Jvm.MethodName)) ∈ lw_all := lw_g (lw_at lw_m2 133 rfl) rfl
theorem q421 : (Jvm.Cond.stringRef "java/util/Arrays" (337 : Nat) " > ") ∈ lw_tbl := lw_at lw_m2 134 rfl
theorem q422 : (Jvm.Cond.methodLink "java/util/Arrays" (50 : Nat) ({ cls := "java/lang/StringBuilder", name := "append", desc := "(Ljava/lang/String;)Ljava/lang/StringBuilder;" } : Jvm.MethodName)) ∈ lw_all := lw_g (lw_at lw_m2 135 rfl) rfl
theorem q423 : (Jvm.Cond.methodLink "java/util/Arrays" (61 : Nat) ({ cls := "java/lang/StringBuilder", name := "toString", desc := "()Ljava/lang/String;" } : Jvm.MethodName)) ∈ lw_all := lw_g (lw_at lw_m2 136 rfl) rfl
theorem q424 : (Jvm.Cond.methodLink "java/util/Arrays" (65 : Nat) ({ cls := "java/lang/IllegalArgumentException", name := "<init>", desc := "(Ljava/lang/String;)V" } : Jvm.MethodName)) ∈ lw_all := lw_g (lw_at lw_m2 137 rfl) rfl
theorem q1313 : (Jvm.Cond.static ({ cls := "java/util/Arrays", name := "copyOf", desc := "([Ljava/lang/Object;I)[Ljava/lang/Object;" } : Jvm.MethodName)) ∈ lw_all := lw_g (lw_at lw_m6 66 rfl) rfl
theorem q1314 : (Jvm.Cond.code ({ cls := "java/util/Arrays", name := "copyOf", desc := "([Ljava/lang/Object;I)[Ljava/lang/Object;" } : Jvm.MethodName) prog_59_method_119_code (2 : Nat) (Option.some (Jvm.ClassFile.FieldType.array (Jvm.ClassFile.FieldType.object "java/lang/Object")))) ∈ lw_all := lw_g (lw_at lw_m6 67 rfl) rfl
theorem q1315 : (Jvm.Cond.methodLink "java/util/Arrays" (86 : Nat) ({ cls := "java/lang/Object", name := "getClass", desc := "()Ljava/lang/Class;" } : Jvm.MethodName)) ∈ lw_all := lw_g (lw_at lw_m6 68 rfl) rfl
theorem q1316 : (Jvm.Cond.methodLink "java/util/Arrays" (300 : Nat) ({ cls := "java/util/Arrays", name := "copyOf", desc := "([Ljava/lang/Object;ILjava/lang/Class;)[Ljava/lang/Object;" } : Jvm.MethodName)) ∈ lw_all := lw_g (lw_at lw_m6 69 rfl) rfl
theorem q1317 : (Jvm.Cond.static ({ cls := "java/util/Arrays", name := "copyOf", desc := "([Ljava/lang/Object;ILjava/lang/Class;)[Ljava/lang/Object;" } : Jvm.MethodName)) ∈ lw_all := lw_g (lw_at lw_m6 70 rfl) rfl
theorem q1318 : (Jvm.Cond.code ({ cls := "java/util/Arrays", name := "copyOf", desc := "([Ljava/lang/Object;ILjava/lang/Class;)[Ljava/lang/Object;" } : Jvm.MethodName) prog_59_method_120_code (4 : Nat) (Option.some (Jvm.ClassFile.FieldType.array (Jvm.ClassFile.FieldType.object "java/lang/Object")))) ∈ lw_all := lw_g (lw_at lw_m6 71 rfl) rfl
theorem q1319 : (Jvm.Cond.classLink "java/util/Arrays" (110 : Nat) "[Ljava/lang/Object;") ∈ lw_all := lw_g (lw_at lw_m6 72 rfl) rfl
theorem q1320 : (Jvm.Cond.classLink "java/util/Arrays" (2 : Nat) "java/lang/Object") ∈ lw_all := lw_g (lw_at lw_m6 73 rfl) rfl
theorem q2057 : (Jvm.Cond.static ({ cls := "java/util/Arrays", name := "copyOf", desc := "([JI)[J" } : Jvm.MethodName)) ∈ lw_all := lw_g (lw_at lw_m9 90 rfl) rfl
theorem q2058 : (Jvm.Cond.code ({ cls := "java/util/Arrays", name := "copyOf", desc := "([JI)[J" } : Jvm.MethodName) prog_59_method_124_code (3 : Nat) (Option.some (Jvm.ClassFile.FieldType.array Jvm.ClassFile.FieldType.long))) ∈ lw_all := lw_g (lw_at lw_m9 91 rfl) rfl
theorem q2059 : (Jvm.Cond.methodLink "java/util/Arrays" (319 : Nat) ({ cls := "[J", name := "clone", desc := "()Ljava/lang/Object;" } : Jvm.MethodName)) ∈ lw_all := lw_g (lw_at lw_m9 92 rfl) rfl
theorem q2063 : (Jvm.Cond.classLink "java/util/Arrays" (320 : Nat) "[J") ∈ lw_all := lw_g (lw_at lw_m9 96 rfl) rfl

theorem q65 : (Jvm.Cond.initialized "jdk/internal/util/Preconditions") ∈ lw_all := lw_g (lw_at lw_m1 18 rfl) rfl
theorem q300 : (Jvm.Cond.laysStatic "jdk/internal/util/Preconditions" "SIOOBE_FORMATTER" "Ljava/util/function/BiFunction;") ∈ lw_tbl := lw_at lw_m2 13 rfl
theorem q302 : (Jvm.Cond.static ({ cls := "jdk/internal/util/Preconditions", name := "checkFromToIndex", desc := "(IIILjava/util/function/BiFunction;)I" } : Jvm.MethodName)) ∈ lw_all := lw_g (lw_at lw_m2 15 rfl) rfl
theorem q303 : (Jvm.Cond.code ({ cls := "jdk/internal/util/Preconditions", name := "checkFromToIndex", desc := "(IIILjava/util/function/BiFunction;)I" } : Jvm.MethodName) prog_83_method_12_code (4 : Nat) (Option.some Jvm.ClassFile.FieldType.int)) ∈ lw_all := lw_g (lw_at lw_m2 16 rfl) rfl
theorem q348 : (Jvm.Cond.static ({ cls := "jdk/internal/util/Preconditions", name := "checkFromIndexSize", desc := "(IIILjava/util/function/BiFunction;)I" } : Jvm.MethodName)) ∈ lw_all := lw_g (lw_at lw_m2 61 rfl) rfl
theorem q349 : (Jvm.Cond.code ({ cls := "jdk/internal/util/Preconditions", name := "checkFromIndexSize", desc := "(IIILjava/util/function/BiFunction;)I" } : Jvm.MethodName) prog_83_method_13_code (4 : Nat) (Option.some Jvm.ClassFile.FieldType.int)) ∈ lw_all := lw_g (lw_at lw_m2 62 rfl) rfl
theorem q738 : (Jvm.Cond.static ({ cls := "jdk/internal/util/Preconditions", name := "checkIndex", desc := "(IILjava/util/function/BiFunction;)I" } : Jvm.MethodName)) ∈ lw_all := lw_g (lw_at lw_m3 211 rfl) rfl
theorem q739 : (Jvm.Cond.code ({ cls := "jdk/internal/util/Preconditions", name := "checkIndex", desc := "(IILjava/util/function/BiFunction;)I" } : Jvm.MethodName) prog_83_method_11_code (3 : Nat) (Option.some Jvm.ClassFile.FieldType.int)) ∈ lw_all := lw_g (lw_at lw_m3 212 rfl) rfl

/-! java/lang/StringLatin1 -/
set_option maxRecDepth 100000
def RJ16 : String := "java/lang/StringLatin1"
abbrev cJ16_inflate : ByteArray := prog_42_method_50_code
def yJ16_inflate : MethodName := ⟨RJ16, "inflate", "([BI[BII)V"⟩
def dkwJ16_inflate_0 : List UInt8 := [42, 27, 44, 29, 21, 4, 184, 0, 240, 177]
abbrev dktJ16_inflate_0 : List UInt8 := dkwJ16_inflate_0 ++ []
theorem dksJ16_inflate_0 : cJ16_inflate.data.toList.drop 0 = dktJ16_inflate_0 := by decide +kernel
theorem dJ16_inflate_0 : decode cJ16_inflate 0 = .ok (.aload_n 0, 1) := dk_42 (dk_at dksJ16_inflate_0 0 rfl rfl)
theorem dJ16_inflate_1 : decode cJ16_inflate 1 = .ok (.iload_n 1, 1) := dk_27 (dk_at dksJ16_inflate_0 1 rfl rfl)
theorem dJ16_inflate_2 : decode cJ16_inflate 2 = .ok (.aload_n 2, 1) := dk_44 (dk_at dksJ16_inflate_0 2 rfl rfl)
theorem dJ16_inflate_3 : decode cJ16_inflate 3 = .ok (.iload_n 3, 1) := dk_29 (dk_at dksJ16_inflate_0 3 rfl rfl)
theorem dJ16_inflate_4 : decode cJ16_inflate 4 = .ok (.iload 4, 2) := dk_21 4 (dk_at dksJ16_inflate_0 4 rfl rfl)
theorem dJ16_inflate_6 : decode cJ16_inflate 6 = .ok (.invokestatic 240, 3) := dk_184 0 240 (dk_at dksJ16_inflate_0 6 rfl rfl)
theorem dJ16_inflate_9 : decode cJ16_inflate 9 = .ok (.return_, 1) := dk_177 (dk_at dksJ16_inflate_0 9 rfl rfl)
abbrev cJ16_canEncode : ByteArray := prog_42_method_3_code
def yJ16_canEncode : MethodName := ⟨RJ16, "canEncode", "(C)Z"⟩
def dkwJ16_canEncode_0 : List UInt8 := [26, 17, 0, 255, 163, 0, 7, 4, 167, 0, 4, 3, 172]
abbrev dktJ16_canEncode_0 : List UInt8 := dkwJ16_canEncode_0 ++ []
theorem dksJ16_canEncode_0 : cJ16_canEncode.data.toList.drop 0 = dktJ16_canEncode_0 := by decide +kernel
theorem dJ16_canEncode_0 : decode cJ16_canEncode 0 = .ok (.iload_n 0, 1) := dk_26 (dk_at dksJ16_canEncode_0 0 rfl rfl)
theorem dJ16_canEncode_1 : decode cJ16_canEncode 1 = .ok (.sipush 255, 3) := dk_17 0 255 (dk_at dksJ16_canEncode_0 1 rfl rfl)
theorem dJ16_canEncode_4 : decode cJ16_canEncode 4 = .ok (.if_icmp .gt 7, 3) := dk_163 0 7 (dk_at dksJ16_canEncode_0 4 rfl rfl)
theorem dJ16_canEncode_7 : decode cJ16_canEncode 7 = .ok (.iconst 1, 1) := dk_4 (dk_at dksJ16_canEncode_0 7 rfl rfl)
theorem dJ16_canEncode_8 : decode cJ16_canEncode 8 = .ok (.goto 4, 3) := dk_167 0 4 (dk_at dksJ16_canEncode_0 8 rfl rfl)
theorem dJ16_canEncode_11 : decode cJ16_canEncode 11 = .ok (.iconst 0, 1) := dk_3 (dk_at dksJ16_canEncode_0 11 rfl rfl)
theorem dJ16_canEncode_12 : decode cJ16_canEncode 12 = .ok (.ireturn, 1) := dk_172 (dk_at dksJ16_canEncode_0 12 rfl rfl)
abbrev cJ16_equals : ByteArray := prog_42_method_13_code
def yJ16_equals : MethodName := ⟨RJ16, "equals", "([B[B)Z"⟩
def dkwJ16_equals_1 : List UInt8 := [3, 172, 132, 2, 1, 167, 255, 236, 4, 172, 3, 172]
abbrev dktJ16_equals_1 : List UInt8 := dkwJ16_equals_1 ++ []
def dkwJ16_equals_0 : List UInt8 := [42, 190, 43, 190, 160, 0, 30, 3, 61, 28, 42, 190, 162, 0, 20, 42, 28, 51, 43, 28, 51, 159, 0, 5]
abbrev dktJ16_equals_0 : List UInt8 := dkwJ16_equals_0 ++ dktJ16_equals_1
theorem dksJ16_equals_0 : cJ16_equals.data.toList.drop 0 = dktJ16_equals_0 := by decide +kernel
theorem dksJ16_equals_1 : cJ16_equals.data.toList.drop 24 = dktJ16_equals_1 := dk_seg dksJ16_equals_0 24 rfl rfl
theorem dJ16_equals_0 : decode cJ16_equals 0 = .ok (.aload_n 0, 1) := dk_42 (dk_at dksJ16_equals_0 0 rfl rfl)
theorem dJ16_equals_1 : decode cJ16_equals 1 = .ok (.arraylength, 1) := dk_190 (dk_at dksJ16_equals_0 1 rfl rfl)
theorem dJ16_equals_2 : decode cJ16_equals 2 = .ok (.aload_n 1, 1) := dk_43 (dk_at dksJ16_equals_0 2 rfl rfl)
theorem dJ16_equals_3 : decode cJ16_equals 3 = .ok (.arraylength, 1) := dk_190 (dk_at dksJ16_equals_0 3 rfl rfl)
theorem dJ16_equals_4 : decode cJ16_equals 4 = .ok (.if_icmp .ne 30, 3) := dk_160 0 30 (dk_at dksJ16_equals_0 4 rfl rfl)
theorem dJ16_equals_7 : decode cJ16_equals 7 = .ok (.iconst 0, 1) := dk_3 (dk_at dksJ16_equals_0 7 rfl rfl)
theorem dJ16_equals_8 : decode cJ16_equals 8 = .ok (.istore_n 2, 1) := dk_61 (dk_at dksJ16_equals_0 8 rfl rfl)
theorem dJ16_equals_9 : decode cJ16_equals 9 = .ok (.iload_n 2, 1) := dk_28 (dk_at dksJ16_equals_0 9 rfl rfl)
theorem dJ16_equals_10 : decode cJ16_equals 10 = .ok (.aload_n 0, 1) := dk_42 (dk_at dksJ16_equals_0 10 rfl rfl)
theorem dJ16_equals_11 : decode cJ16_equals 11 = .ok (.arraylength, 1) := dk_190 (dk_at dksJ16_equals_0 11 rfl rfl)
theorem dJ16_equals_12 : decode cJ16_equals 12 = .ok (.if_icmp .ge 20, 3) := dk_162 0 20 (dk_at dksJ16_equals_0 12 rfl rfl)
theorem dJ16_equals_15 : decode cJ16_equals 15 = .ok (.aload_n 0, 1) := dk_42 (dk_at dksJ16_equals_0 15 rfl rfl)
theorem dJ16_equals_16 : decode cJ16_equals 16 = .ok (.iload_n 2, 1) := dk_28 (dk_at dksJ16_equals_0 16 rfl rfl)
theorem dJ16_equals_17 : decode cJ16_equals 17 = .ok (.baload, 1) := dk_51 (dk_at dksJ16_equals_0 17 rfl rfl)
theorem dJ16_equals_18 : decode cJ16_equals 18 = .ok (.aload_n 1, 1) := dk_43 (dk_at dksJ16_equals_0 18 rfl rfl)
theorem dJ16_equals_19 : decode cJ16_equals 19 = .ok (.iload_n 2, 1) := dk_28 (dk_at dksJ16_equals_0 19 rfl rfl)
theorem dJ16_equals_20 : decode cJ16_equals 20 = .ok (.baload, 1) := dk_51 (dk_at dksJ16_equals_0 20 rfl rfl)
theorem dJ16_equals_21 : decode cJ16_equals 21 = .ok (.if_icmp .eq 5, 3) := dk_159 0 5 (dk_at dksJ16_equals_0 21 rfl rfl)
theorem dJ16_equals_24 : decode cJ16_equals 24 = .ok (.iconst 0, 1) := dk_3 (dk_at dksJ16_equals_1 0 rfl rfl)
theorem dJ16_equals_25 : decode cJ16_equals 25 = .ok (.ireturn, 1) := dk_172 (dk_at dksJ16_equals_1 1 rfl rfl)
theorem dJ16_equals_26 : decode cJ16_equals 26 = .ok (.iinc 2 1, 3) := dk_132 2 1 (dk_at dksJ16_equals_1 2 rfl rfl)
theorem dJ16_equals_29 : decode cJ16_equals 29 = .ok (.goto (-20), 3) := dk_167 255 236 (dk_at dksJ16_equals_1 5 rfl rfl)
theorem dJ16_equals_32 : decode cJ16_equals 32 = .ok (.iconst 1, 1) := dk_4 (dk_at dksJ16_equals_1 8 rfl rfl)
theorem dJ16_equals_33 : decode cJ16_equals 33 = .ok (.ireturn, 1) := dk_172 (dk_at dksJ16_equals_1 9 rfl rfl)
theorem dJ16_equals_34 : decode cJ16_equals 34 = .ok (.iconst 0, 1) := dk_3 (dk_at dksJ16_equals_1 10 rfl rfl)
theorem dJ16_equals_35 : decode cJ16_equals 35 = .ok (.ireturn, 1) := dk_172 (dk_at dksJ16_equals_1 11 rfl rfl)
theorem q66 : (Jvm.Cond.initialized "java/lang/StringLatin1") ∈ lw_all := lw_g (lw_at lw_m1 19 rfl) rfl
theorem q336 : (Jvm.Cond.static ({ cls := "java/lang/StringLatin1", name := "inflate", desc := "([BI[BII)V" } : Jvm.MethodName)) ∈ lw_all := lw_g (lw_at lw_m2 49 rfl) rfl
theorem q337 : (Jvm.Cond.code ({ cls := "java/lang/StringLatin1", name := "inflate", desc := "([BI[BII)V" } : Jvm.MethodName) prog_42_method_50_code (5 : Nat) (Option.none : Option Jvm.ClassFile.FieldType)) ∈ lw_all := lw_g (lw_at lw_m2 50 rfl) rfl
theorem q338 : (Jvm.Cond.methodLink "java/lang/StringLatin1" (240 : Nat) ({ cls := "java/lang/StringUTF16", name := "inflate", desc := "([BI[BII)V" } : Jvm.MethodName)) ∈ lw_all := lw_g (lw_at lw_m2 51 rfl) rfl
theorem q1037 : (Jvm.Cond.static ({ cls := "java/lang/StringLatin1", name := "canEncode", desc := "(C)Z" } : Jvm.MethodName)) ∈ lw_all := lw_g (lw_at lw_m5 30 rfl) rfl
theorem q1038 : (Jvm.Cond.code ({ cls := "java/lang/StringLatin1", name := "canEncode", desc := "(C)Z" } : Jvm.MethodName) prog_42_method_3_code (1 : Nat) (Option.some Jvm.ClassFile.FieldType.boolean)) ∈ lw_all := lw_g (lw_at lw_m5 31 rfl) rfl
theorem q2533 : (Jvm.Cond.static ({ cls := "java/lang/StringLatin1", name := "equals", desc := "([B[B)Z" } : Jvm.MethodName)) ∈ lw_all := lw_g (lw_at lw_m11 86 rfl) rfl
theorem q2534 : (Jvm.Cond.code ({ cls := "java/lang/StringLatin1", name := "equals", desc := "([B[B)Z" } : Jvm.MethodName) prog_42_method_13_code (3 : Nat) (Option.some Jvm.ClassFile.FieldType.boolean)) ∈ lw_all := lw_g (lw_at lw_m11 87 rfl) rfl

/-! java/lang/Integer -/
set_option maxRecDepth 100000
def RJ17 : String := "java/lang/Integer"
abbrev cJ17_stringSize : ByteArray := prog_33_method_13_code
def yJ17_stringSize : MethodName := ⟨RJ17, "stringSize", "(I)I"⟩
def dkwJ17_stringSize_1 : List UInt8 := [164, 0, 7, 29, 27, 96, 172, 16, 10, 28, 104, 61, 132, 3, 1, 167, 255, 233, 16, 10, 27, 96, 172]
abbrev dktJ17_stringSize_1 : List UInt8 := dkwJ17_stringSize_1 ++ []
def dkwJ17_stringSize_0 : List UInt8 := [4, 60, 26, 155, 0, 8, 3, 60, 26, 116, 59, 16, 246, 61, 4, 62, 29, 16, 10, 162, 0, 23, 26, 28]
abbrev dktJ17_stringSize_0 : List UInt8 := dkwJ17_stringSize_0 ++ dktJ17_stringSize_1
theorem dksJ17_stringSize_0 : cJ17_stringSize.data.toList.drop 0 = dktJ17_stringSize_0 := by decide +kernel
theorem dksJ17_stringSize_1 : cJ17_stringSize.data.toList.drop 24 = dktJ17_stringSize_1 := dk_seg dksJ17_stringSize_0 24 rfl rfl
theorem dJ17_stringSize_0 : decode cJ17_stringSize 0 = .ok (.iconst 1, 1) := dk_4 (dk_at dksJ17_stringSize_0 0 rfl rfl)
theorem dJ17_stringSize_1 : decode cJ17_stringSize 1 = .ok (.istore_n 1, 1) := dk_60 (dk_at dksJ17_stringSize_0 1 rfl rfl)
theorem dJ17_stringSize_2 : decode cJ17_stringSize 2 = .ok (.iload_n 0, 1) := dk_26 (dk_at dksJ17_stringSize_0 2 rfl rfl)
theorem dJ17_stringSize_3 : decode cJ17_stringSize 3 = .ok (.ifCond .lt 8, 3) := dk_155 0 8 (dk_at dksJ17_stringSize_0 3 rfl rfl)
theorem dJ17_stringSize_6 : decode cJ17_stringSize 6 = .ok (.iconst 0, 1) := dk_3 (dk_at dksJ17_stringSize_0 6 rfl rfl)
theorem dJ17_stringSize_7 : decode cJ17_stringSize 7 = .ok (.istore_n 1, 1) := dk_60 (dk_at dksJ17_stringSize_0 7 rfl rfl)
theorem dJ17_stringSize_8 : decode cJ17_stringSize 8 = .ok (.iload_n 0, 1) := dk_26 (dk_at dksJ17_stringSize_0 8 rfl rfl)
theorem dJ17_stringSize_9 : decode cJ17_stringSize 9 = .ok (.ineg, 1) := dk_116 (dk_at dksJ17_stringSize_0 9 rfl rfl)
theorem dJ17_stringSize_10 : decode cJ17_stringSize 10 = .ok (.istore_n 0, 1) := dk_59 (dk_at dksJ17_stringSize_0 10 rfl rfl)
theorem dJ17_stringSize_11 : decode cJ17_stringSize 11 = .ok (.bipush (-10), 2) := dk_16 246 (dk_at dksJ17_stringSize_0 11 rfl rfl)
theorem dJ17_stringSize_13 : decode cJ17_stringSize 13 = .ok (.istore_n 2, 1) := dk_61 (dk_at dksJ17_stringSize_0 13 rfl rfl)
theorem dJ17_stringSize_14 : decode cJ17_stringSize 14 = .ok (.iconst 1, 1) := dk_4 (dk_at dksJ17_stringSize_0 14 rfl rfl)
theorem dJ17_stringSize_15 : decode cJ17_stringSize 15 = .ok (.istore_n 3, 1) := dk_62 (dk_at dksJ17_stringSize_0 15 rfl rfl)
theorem dJ17_stringSize_16 : decode cJ17_stringSize 16 = .ok (.iload_n 3, 1) := dk_29 (dk_at dksJ17_stringSize_0 16 rfl rfl)
theorem dJ17_stringSize_17 : decode cJ17_stringSize 17 = .ok (.bipush 10, 2) := dk_16 10 (dk_at dksJ17_stringSize_0 17 rfl rfl)
theorem dJ17_stringSize_19 : decode cJ17_stringSize 19 = .ok (.if_icmp .ge 23, 3) := dk_162 0 23 (dk_at dksJ17_stringSize_0 19 rfl rfl)
theorem dJ17_stringSize_22 : decode cJ17_stringSize 22 = .ok (.iload_n 0, 1) := dk_26 (dk_at dksJ17_stringSize_0 22 rfl rfl)
theorem dJ17_stringSize_23 : decode cJ17_stringSize 23 = .ok (.iload_n 2, 1) := dk_28 (dk_at dksJ17_stringSize_0 23 rfl rfl)
theorem dJ17_stringSize_24 : decode cJ17_stringSize 24 = .ok (.if_icmp .le 7, 3) := dk_164 0 7 (dk_at dksJ17_stringSize_1 0 rfl rfl)
theorem dJ17_stringSize_27 : decode cJ17_stringSize 27 = .ok (.iload_n 3, 1) := dk_29 (dk_at dksJ17_stringSize_1 3 rfl rfl)
theorem dJ17_stringSize_28 : decode cJ17_stringSize 28 = .ok (.iload_n 1, 1) := dk_27 (dk_at dksJ17_stringSize_1 4 rfl rfl)
theorem dJ17_stringSize_29 : decode cJ17_stringSize 29 = .ok (.iadd, 1) := dk_96 (dk_at dksJ17_stringSize_1 5 rfl rfl)
theorem dJ17_stringSize_30 : decode cJ17_stringSize 30 = .ok (.ireturn, 1) := dk_172 (dk_at dksJ17_stringSize_1 6 rfl rfl)
theorem dJ17_stringSize_31 : decode cJ17_stringSize 31 = .ok (.bipush 10, 2) := dk_16 10 (dk_at dksJ17_stringSize_1 7 rfl rfl)
theorem dJ17_stringSize_33 : decode cJ17_stringSize 33 = .ok (.iload_n 2, 1) := dk_28 (dk_at dksJ17_stringSize_1 9 rfl rfl)
theorem dJ17_stringSize_34 : decode cJ17_stringSize 34 = .ok (.imul, 1) := dk_104 (dk_at dksJ17_stringSize_1 10 rfl rfl)
theorem dJ17_stringSize_35 : decode cJ17_stringSize 35 = .ok (.istore_n 2, 1) := dk_61 (dk_at dksJ17_stringSize_1 11 rfl rfl)
theorem dJ17_stringSize_36 : decode cJ17_stringSize 36 = .ok (.iinc 3 1, 3) := dk_132 3 1 (dk_at dksJ17_stringSize_1 12 rfl rfl)
theorem dJ17_stringSize_39 : decode cJ17_stringSize 39 = .ok (.goto (-23), 3) := dk_167 255 233 (dk_at dksJ17_stringSize_1 15 rfl rfl)
theorem dJ17_stringSize_42 : decode cJ17_stringSize 42 = .ok (.bipush 10, 2) := dk_16 10 (dk_at dksJ17_stringSize_1 18 rfl rfl)
theorem dJ17_stringSize_44 : decode cJ17_stringSize 44 = .ok (.iload_n 1, 1) := dk_27 (dk_at dksJ17_stringSize_1 20 rfl rfl)
theorem dJ17_stringSize_45 : decode cJ17_stringSize 45 = .ok (.iadd, 1) := dk_96 (dk_at dksJ17_stringSize_1 21 rfl rfl)
theorem dJ17_stringSize_46 : decode cJ17_stringSize 46 = .ok (.ireturn, 1) := dk_172 (dk_at dksJ17_stringSize_1 22 rfl rfl)
abbrev cJ17_getChars : ByteArray := prog_33_method_12_code
def yJ17_getChars : MethodName := ⟨RJ17, "getChars", "(II[B)I"⟩
def dkwJ17_getChars_5 : List UInt8 := [16, 45, 84, 21, 5, 172]
abbrev dktJ17_getChars_5 : List UInt8 := dkwJ17_getChars_5 ++ []
def dkwJ17_getChars_4 : List UInt8 := [132, 5, 255, 21, 5, 178, 0, 87, 26, 116, 51, 84, 21, 6, 153, 0, 12, 44, 132, 5, 255, 21, 5]
abbrev dktJ17_getChars_4 : List UInt8 := dkwJ17_getChars_4 ++ dktJ17_getChars_5
def dkwJ17_getChars_3 : List UInt8 := [167, 255, 209, 44, 132, 5, 255, 21, 5, 178, 0, 83, 26, 116, 51, 84, 26, 16, 247, 162, 0, 16, 44]
abbrev dktJ17_getChars_3 : List UInt8 := dkwJ17_getChars_3 ++ dktJ17_getChars_4
def dkwJ17_getChars_2 : List UInt8 := [21, 5, 178, 0, 83, 21, 4, 51, 84, 44, 132, 5, 255, 21, 5, 178, 0, 87, 21, 4, 51, 84]
abbrev dktJ17_getChars_2 : List UInt8 := dkwJ17_getChars_2 ++ dktJ17_getChars_3
def dkwJ17_getChars_1 : List UInt8 := [16, 156, 163, 0, 47, 26, 16, 100, 108, 62, 29, 16, 100, 104, 26, 100, 54, 4, 29, 59, 44, 132, 5, 255]
abbrev dktJ17_getChars_1 : List UInt8 := dkwJ17_getChars_1 ++ dktJ17_getChars_2
def dkwJ17_getChars_0 : List UInt8 := [27, 54, 5, 26, 156, 0, 7, 4, 167, 0, 4, 3, 54, 6, 21, 6, 154, 0, 6, 26, 116, 59, 26]
abbrev dktJ17_getChars_0 : List UInt8 := dkwJ17_getChars_0 ++ dktJ17_getChars_1
theorem dksJ17_getChars_0 : cJ17_getChars.data.toList.drop 0 = dktJ17_getChars_0 := by decide +kernel
theorem dksJ17_getChars_1 : cJ17_getChars.data.toList.drop 23 = dktJ17_getChars_1 := dk_seg dksJ17_getChars_0 23 rfl rfl
theorem dksJ17_getChars_2 : cJ17_getChars.data.toList.drop 47 = dktJ17_getChars_2 := dk_seg dksJ17_getChars_1 24 rfl rfl
theorem dksJ17_getChars_3 : cJ17_getChars.data.toList.drop 69 = dktJ17_getChars_3 := dk_seg dksJ17_getChars_2 22 rfl rfl
theorem dksJ17_getChars_4 : cJ17_getChars.data.toList.drop 92 = dktJ17_getChars_4 := dk_seg dksJ17_getChars_3 23 rfl rfl
theorem dksJ17_getChars_5 : cJ17_getChars.data.toList.drop 115 = dktJ17_getChars_5 := dk_seg dksJ17_getChars_4 23 rfl rfl
theorem dJ17_getChars_0 : decode cJ17_getChars 0 = .ok (.iload_n 1, 1) := dk_27 (dk_at dksJ17_getChars_0 0 rfl rfl)
theorem dJ17_getChars_1 : decode cJ17_getChars 1 = .ok (.istore 5, 2) := dk_54 5 (dk_at dksJ17_getChars_0 1 rfl rfl)
theorem dJ17_getChars_3 : decode cJ17_getChars 3 = .ok (.iload_n 0, 1) := dk_26 (dk_at dksJ17_getChars_0 3 rfl rfl)
theorem dJ17_getChars_4 : decode cJ17_getChars 4 = .ok (.ifCond .ge 7, 3) := dk_156 0 7 (dk_at dksJ17_getChars_0 4 rfl rfl)
theorem dJ17_getChars_7 : decode cJ17_getChars 7 = .ok (.iconst 1, 1) := dk_4 (dk_at dksJ17_getChars_0 7 rfl rfl)
theorem dJ17_getChars_8 : decode cJ17_getChars 8 = .ok (.goto 4, 3) := dk_167 0 4 (dk_at dksJ17_getChars_0 8 rfl rfl)
theorem dJ17_getChars_11 : decode cJ17_getChars 11 = .ok (.iconst 0, 1) := dk_3 (dk_at dksJ17_getChars_0 11 rfl rfl)
theorem dJ17_getChars_12 : decode cJ17_getChars 12 = .ok (.istore 6, 2) := dk_54 6 (dk_at dksJ17_getChars_0 12 rfl rfl)
theorem dJ17_getChars_14 : decode cJ17_getChars 14 = .ok (.iload 6, 2) := dk_21 6 (dk_at dksJ17_getChars_0 14 rfl rfl)
theorem dJ17_getChars_16 : decode cJ17_getChars 16 = .ok (.ifCond .ne 6, 3) := dk_154 0 6 (dk_at dksJ17_getChars_0 16 rfl rfl)
theorem dJ17_getChars_19 : decode cJ17_getChars 19 = .ok (.iload_n 0, 1) := dk_26 (dk_at dksJ17_getChars_0 19 rfl rfl)
theorem dJ17_getChars_20 : decode cJ17_getChars 20 = .ok (.ineg, 1) := dk_116 (dk_at dksJ17_getChars_0 20 rfl rfl)
theorem dJ17_getChars_21 : decode cJ17_getChars 21 = .ok (.istore_n 0, 1) := dk_59 (dk_at dksJ17_getChars_0 21 rfl rfl)
theorem dJ17_getChars_22 : decode cJ17_getChars 22 = .ok (.iload_n 0, 1) := dk_26 (dk_at dksJ17_getChars_0 22 rfl rfl)
theorem dJ17_getChars_23 : decode cJ17_getChars 23 = .ok (.bipush (-100), 2) := dk_16 156 (dk_at dksJ17_getChars_1 0 rfl rfl)
theorem dJ17_getChars_25 : decode cJ17_getChars 25 = .ok (.if_icmp .gt 47, 3) := dk_163 0 47 (dk_at dksJ17_getChars_1 2 rfl rfl)
theorem dJ17_getChars_28 : decode cJ17_getChars 28 = .ok (.iload_n 0, 1) := dk_26 (dk_at dksJ17_getChars_1 5 rfl rfl)
theorem dJ17_getChars_29 : decode cJ17_getChars 29 = .ok (.bipush 100, 2) := dk_16 100 (dk_at dksJ17_getChars_1 6 rfl rfl)
theorem dJ17_getChars_31 : decode cJ17_getChars 31 = .ok (.idiv, 1) := dk_108 (dk_at dksJ17_getChars_1 8 rfl rfl)
theorem dJ17_getChars_32 : decode cJ17_getChars 32 = .ok (.istore_n 3, 1) := dk_62 (dk_at dksJ17_getChars_1 9 rfl rfl)
theorem dJ17_getChars_33 : decode cJ17_getChars 33 = .ok (.iload_n 3, 1) := dk_29 (dk_at dksJ17_getChars_1 10 rfl rfl)
theorem dJ17_getChars_34 : decode cJ17_getChars 34 = .ok (.bipush 100, 2) := dk_16 100 (dk_at dksJ17_getChars_1 11 rfl rfl)
theorem dJ17_getChars_36 : decode cJ17_getChars 36 = .ok (.imul, 1) := dk_104 (dk_at dksJ17_getChars_1 13 rfl rfl)
theorem dJ17_getChars_37 : decode cJ17_getChars 37 = .ok (.iload_n 0, 1) := dk_26 (dk_at dksJ17_getChars_1 14 rfl rfl)
theorem dJ17_getChars_38 : decode cJ17_getChars 38 = .ok (.isub, 1) := dk_100 (dk_at dksJ17_getChars_1 15 rfl rfl)
theorem dJ17_getChars_39 : decode cJ17_getChars 39 = .ok (.istore 4, 2) := dk_54 4 (dk_at dksJ17_getChars_1 16 rfl rfl)
theorem dJ17_getChars_41 : decode cJ17_getChars 41 = .ok (.iload_n 3, 1) := dk_29 (dk_at dksJ17_getChars_1 18 rfl rfl)
theorem dJ17_getChars_42 : decode cJ17_getChars 42 = .ok (.istore_n 0, 1) := dk_59 (dk_at dksJ17_getChars_1 19 rfl rfl)
theorem dJ17_getChars_43 : decode cJ17_getChars 43 = .ok (.aload_n 2, 1) := dk_44 (dk_at dksJ17_getChars_1 20 rfl rfl)
theorem dJ17_getChars_44 : decode cJ17_getChars 44 = .ok (.iinc 5 (-1), 3) := dk_132 5 255 (dk_at dksJ17_getChars_1 21 rfl rfl)
theorem dJ17_getChars_47 : decode cJ17_getChars 47 = .ok (.iload 5, 2) := dk_21 5 (dk_at dksJ17_getChars_2 0 rfl rfl)
theorem dJ17_getChars_49 : decode cJ17_getChars 49 = .ok (.getstatic 83, 3) := dk_178 0 83 (dk_at dksJ17_getChars_2 2 rfl rfl)
theorem dJ17_getChars_52 : decode cJ17_getChars 52 = .ok (.iload 4, 2) := dk_21 4 (dk_at dksJ17_getChars_2 5 rfl rfl)
theorem dJ17_getChars_54 : decode cJ17_getChars 54 = .ok (.baload, 1) := dk_51 (dk_at dksJ17_getChars_2 7 rfl rfl)
theorem dJ17_getChars_55 : decode cJ17_getChars 55 = .ok (.bastore, 1) := dk_84 (dk_at dksJ17_getChars_2 8 rfl rfl)
theorem dJ17_getChars_56 : decode cJ17_getChars 56 = .ok (.aload_n 2, 1) := dk_44 (dk_at dksJ17_getChars_2 9 rfl rfl)
theorem dJ17_getChars_57 : decode cJ17_getChars 57 = .ok (.iinc 5 (-1), 3) := dk_132 5 255 (dk_at dksJ17_getChars_2 10 rfl rfl)
theorem dJ17_getChars_60 : decode cJ17_getChars 60 = .ok (.iload 5, 2) := dk_21 5 (dk_at dksJ17_getChars_2 13 rfl rfl)
theorem dJ17_getChars_62 : decode cJ17_getChars 62 = .ok (.getstatic 87, 3) := dk_178 0 87 (dk_at dksJ17_getChars_2 15 rfl rfl)
theorem dJ17_getChars_65 : decode cJ17_getChars 65 = .ok (.iload 4, 2) := dk_21 4 (dk_at dksJ17_getChars_2 18 rfl rfl)
theorem dJ17_getChars_67 : decode cJ17_getChars 67 = .ok (.baload, 1) := dk_51 (dk_at dksJ17_getChars_2 20 rfl rfl)
theorem dJ17_getChars_68 : decode cJ17_getChars 68 = .ok (.bastore, 1) := dk_84 (dk_at dksJ17_getChars_2 21 rfl rfl)
theorem dJ17_getChars_69 : decode cJ17_getChars 69 = .ok (.goto (-47), 3) := dk_167 255 209 (dk_at dksJ17_getChars_3 0 rfl rfl)
theorem dJ17_getChars_72 : decode cJ17_getChars 72 = .ok (.aload_n 2, 1) := dk_44 (dk_at dksJ17_getChars_3 3 rfl rfl)
theorem dJ17_getChars_73 : decode cJ17_getChars 73 = .ok (.iinc 5 (-1), 3) := dk_132 5 255 (dk_at dksJ17_getChars_3 4 rfl rfl)
theorem dJ17_getChars_76 : decode cJ17_getChars 76 = .ok (.iload 5, 2) := dk_21 5 (dk_at dksJ17_getChars_3 7 rfl rfl)
theorem dJ17_getChars_78 : decode cJ17_getChars 78 = .ok (.getstatic 83, 3) := dk_178 0 83 (dk_at dksJ17_getChars_3 9 rfl rfl)
theorem dJ17_getChars_81 : decode cJ17_getChars 81 = .ok (.iload_n 0, 1) := dk_26 (dk_at dksJ17_getChars_3 12 rfl rfl)
theorem dJ17_getChars_82 : decode cJ17_getChars 82 = .ok (.ineg, 1) := dk_116 (dk_at dksJ17_getChars_3 13 rfl rfl)
theorem dJ17_getChars_83 : decode cJ17_getChars 83 = .ok (.baload, 1) := dk_51 (dk_at dksJ17_getChars_3 14 rfl rfl)
theorem dJ17_getChars_84 : decode cJ17_getChars 84 = .ok (.bastore, 1) := dk_84 (dk_at dksJ17_getChars_3 15 rfl rfl)
theorem dJ17_getChars_85 : decode cJ17_getChars 85 = .ok (.iload_n 0, 1) := dk_26 (dk_at dksJ17_getChars_3 16 rfl rfl)
theorem dJ17_getChars_86 : decode cJ17_getChars 86 = .ok (.bipush (-9), 2) := dk_16 247 (dk_at dksJ17_getChars_3 17 rfl rfl)
theorem dJ17_getChars_88 : decode cJ17_getChars 88 = .ok (.if_icmp .ge 16, 3) := dk_162 0 16 (dk_at dksJ17_getChars_3 19 rfl rfl)
theorem dJ17_getChars_91 : decode cJ17_getChars 91 = .ok (.aload_n 2, 1) := dk_44 (dk_at dksJ17_getChars_3 22 rfl rfl)
theorem dJ17_getChars_92 : decode cJ17_getChars 92 = .ok (.iinc 5 (-1), 3) := dk_132 5 255 (dk_at dksJ17_getChars_4 0 rfl rfl)
theorem dJ17_getChars_95 : decode cJ17_getChars 95 = .ok (.iload 5, 2) := dk_21 5 (dk_at dksJ17_getChars_4 3 rfl rfl)
theorem dJ17_getChars_97 : decode cJ17_getChars 97 = .ok (.getstatic 87, 3) := dk_178 0 87 (dk_at dksJ17_getChars_4 5 rfl rfl)
theorem dJ17_getChars_100 : decode cJ17_getChars 100 = .ok (.iload_n 0, 1) := dk_26 (dk_at dksJ17_getChars_4 8 rfl rfl)
theorem dJ17_getChars_101 : decode cJ17_getChars 101 = .ok (.ineg, 1) := dk_116 (dk_at dksJ17_getChars_4 9 rfl rfl)
theorem dJ17_getChars_102 : decode cJ17_getChars 102 = .ok (.baload, 1) := dk_51 (dk_at dksJ17_getChars_4 10 rfl rfl)
theorem dJ17_getChars_103 : decode cJ17_getChars 103 = .ok (.bastore, 1) := dk_84 (dk_at dksJ17_getChars_4 11 rfl rfl)
theorem dJ17_getChars_104 : decode cJ17_getChars 104 = .ok (.iload 6, 2) := dk_21 6 (dk_at dksJ17_getChars_4 12 rfl rfl)
theorem dJ17_getChars_106 : decode cJ17_getChars 106 = .ok (.ifCond .eq 12, 3) := dk_153 0 12 (dk_at dksJ17_getChars_4 14 rfl rfl)
theorem dJ17_getChars_109 : decode cJ17_getChars 109 = .ok (.aload_n 2, 1) := dk_44 (dk_at dksJ17_getChars_4 17 rfl rfl)
theorem dJ17_getChars_110 : decode cJ17_getChars 110 = .ok (.iinc 5 (-1), 3) := dk_132 5 255 (dk_at dksJ17_getChars_4 18 rfl rfl)
theorem dJ17_getChars_113 : decode cJ17_getChars 113 = .ok (.iload 5, 2) := dk_21 5 (dk_at dksJ17_getChars_4 21 rfl rfl)
theorem dJ17_getChars_115 : decode cJ17_getChars 115 = .ok (.bipush 45, 2) := dk_16 45 (dk_at dksJ17_getChars_5 0 rfl rfl)
theorem dJ17_getChars_117 : decode cJ17_getChars 117 = .ok (.bastore, 1) := dk_84 (dk_at dksJ17_getChars_5 2 rfl rfl)
theorem dJ17_getChars_118 : decode cJ17_getChars 118 = .ok (.iload 5, 2) := dk_21 5 (dk_at dksJ17_getChars_5 3 rfl rfl)
theorem dJ17_getChars_120 : decode cJ17_getChars 120 = .ok (.ireturn, 1) := dk_172 (dk_at dksJ17_getChars_5 5 rfl rfl)
theorem q68 : (Jvm.Cond.initialized "java/lang/Integer") ∈ lw_all := lw_g (lw_at lw_m1 21 rfl) rfl
theorem q364 : (Jvm.Cond.static ({ cls := "java/lang/Integer", name := "stringSize", desc := "(I)I" } : Jvm.MethodName)) ∈ lw_all := lw_g (lw_at lw_m2 77 rfl) rfl
theorem q365 : (Jvm.Cond.code ({ cls := "java/lang/Integer", name := "stringSize", desc := "(I)I" } : Jvm.MethodName) prog_33_method_13_code (4 : Nat) (Option.some Jvm.ClassFile.FieldType.int)) ∈ lw_all := lw_g (lw_at lw_m2 78 rfl) rfl
theorem q367 : (Jvm.Cond.static ({ cls := "java/lang/Integer", name := "getChars", desc := "(II[B)I" } : Jvm.MethodName)) ∈ lw_all := lw_g (lw_at lw_m2 80 rfl) rfl
theorem q368 : (Jvm.Cond.code ({ cls := "java/lang/Integer", name := "getChars", desc := "(II[B)I" } : Jvm.MethodName) prog_33_method_12_code (7 : Nat) (Option.some Jvm.ClassFile.FieldType.int)) ∈ lw_all := lw_g (lw_at lw_m2 81 rfl) rfl
theorem q369 : (Jvm.Cond.fieldLink "java/lang/Integer" (83 : Nat) "java/lang/Integer" "DigitOnes" "[B") ∈ lw_all := lw_g (lw_at lw_m2 82 rfl) rfl
theorem q370 : (Jvm.Cond.laysStatic "java/lang/Integer" "DigitOnes" "[B") ∈ lw_tbl := lw_at lw_m2 83 rfl
theorem q371 : (Jvm.Cond.fieldLink "java/lang/Integer" (87 : Nat) "java/lang/Integer" "DigitTens" "[B") ∈ lw_all := lw_g (lw_at lw_m2 84 rfl) rfl
theorem q372 : (Jvm.Cond.laysStatic "java/lang/Integer" "DigitTens" "[B") ∈ lw_tbl := lw_at lw_m2 85 rfl

/-! java/util/AbstractSequentialList -/
set_option maxRecDepth 100000
def RJ18 : String := "java/util/AbstractSequentialList"
abbrev cJ18_init : ByteArray := prog_53_method_1_code
def yJ18_init : MethodName := ⟨RJ18, "<init>", "()V"⟩
theorem dJ18_init_0 : decode cJ18_init 0 = .ok (.aload_n 0, 1) := by decide +kernel
theorem dJ18_init_1 : decode cJ18_init 1 = .ok (.invokespecial 1, 3) := by decide +kernel
theorem dJ18_init_4 : decode cJ18_init 4 = .ok (.return_, 1) := by decide +kernel
abbrev cJ18_iterator : ByteArray := prog_53_method_7_code
def yJ18_iterator : MethodName := ⟨RJ18, "iterator", "()Ljava/util/Iterator;"⟩
theorem dJ18_iterator_0 : decode cJ18_iterator 0 = .ok (.aload_n 0, 1) := by decide +kernel
theorem dJ18_iterator_1 : decode cJ18_iterator 1 = .ok (.invokevirtual 65, 3) := by decide +kernel
theorem dJ18_iterator_4 : decode cJ18_iterator 4 = .ok (.areturn, 1) := by decide +kernel
theorem q69 : (Jvm.Cond.initialized "java/util/AbstractSequentialList") ∈ lw_all := lw_g (lw_at lw_m1 22 rfl) rfl
theorem q501 : (Jvm.Cond.instanceMethod ({ cls := "java/util/AbstractSequentialList", name := "<init>", desc := "()V" } : Jvm.MethodName)) ∈ lw_all := lw_g (lw_at lw_m2 214 rfl) rfl
theorem q502 : (Jvm.Cond.code ({ cls := "java/util/AbstractSequentialList", name := "<init>", desc := "()V" } : Jvm.MethodName) prog_53_method_1_code (1 : Nat) (Option.none : Option Jvm.ClassFile.FieldType)) ∈ lw_all := lw_g (lw_at lw_m2 215 rfl) rfl
theorem q503 : (Jvm.Cond.methodLink "java/util/AbstractSequentialList" (1 : Nat) ({ cls := "java/util/AbstractList", name := "<init>", desc := "()V" } : Jvm.MethodName)) ∈ lw_all := lw_g (lw_at lw_m2 216 rfl) rfl
theorem q1370 : (Jvm.Cond.declares ({ cls := "java/util/AbstractSequentialList", name := "iterator", desc := "()Ljava/util/Iterator;" } : Jvm.MethodName)) ∈ lw_tbl := lw_at lw_m6 123 rfl
theorem q1372 : (Jvm.Cond.instanceMethod ({ cls := "java/util/AbstractSequentialList", name := "iterator", desc := "()Ljava/util/Iterator;" } : Jvm.MethodName)) ∈ lw_all := lw_g (lw_at lw_m6 125 rfl) rfl
theorem q1373 : (Jvm.Cond.code ({ cls := "java/util/AbstractSequentialList", name := "iterator", desc := "()Ljava/util/Iterator;" } : Jvm.MethodName) prog_53_method_7_code (1 : Nat) (Option.some (Jvm.ClassFile.FieldType.object "java/util/Iterator"))) ∈ lw_all := lw_g (lw_at lw_m6 126 rfl) rfl
theorem q1374 : (Jvm.Cond.methodLink "java/util/AbstractSequentialList" (65 : Nat) ({ cls := "java/util/AbstractSequentialList", name := "listIterator", desc := "()Ljava/util/ListIterator;" } : Jvm.MethodName)) ∈ lw_all := lw_g (lw_at lw_m6 127 rfl) rfl
theorem q1375 : (Jvm.Cond.sameMethod "java/util/AbstractSequentialList" "java/util/AbstractList" "listIterator" "()Ljava/util/ListIterator;") ∈ lw_all := lw_g (lw_at lw_m6 128 rfl) rfl
theorem q2003 : (Jvm.Cond.publicMethod ({ cls := "java/util/AbstractSequentialList", name := "iterator", desc := "()Ljava/util/Iterator;" } : Jvm.MethodName)) ∈ lw_tbl := lw_at lw_m9 36 rfl

/-! java/util/LinkedList -/
set_option maxRecDepth 100000
def RJ19 : String := "java/util/LinkedList"
def TJ19 : u_T := fun k => match k with
  | 0 => ("java/util/AbstractList", "modCount", "I", false)
  | 1 => ("java/util/LinkedList", "size", "I", false)
  | 2 => ("java/util/LinkedList", "first", "Ljava/util/LinkedList$Node;", false)
  | _ => ("java/util/LinkedList", "last", "Ljava/util/LinkedList$Node;", false)
def tyJ19 : Nat → FieldType := fun k => match k with
  | 0 => .int
  | 1 => .int
  | 2 => .object "java/util/LinkedList$Node"
  | _ => .object "java/util/LinkedList$Node"
abbrev wsJ190 : List Cond := u_ws RJ19 TJ19 4
theorem nmJ19 : ∀ a, a < 4 → ∀ b, b < 4 → a ≠ b → (TJ19 a).2.1 ≠ (TJ19 b).2.1 := by decide +kernel
theorem tyJ19_ok : ∀ k, k < 4 → parseFieldDescriptor (TJ19 k).2.2.1 = some (tyJ19 k) := by decide +kernel
abbrev cJ19_init : ByteArray := prog_72_method_1_code
def yJ19_init : MethodName := ⟨RJ19, "<init>", "()V"⟩
def dkwJ19_init_0 : List UInt8 := [42, 183, 0, 1, 42, 3, 181, 0, 7, 177]
abbrev dktJ19_init_0 : List UInt8 := dkwJ19_init_0 ++ []
theorem dksJ19_init_0 : cJ19_init.data.toList.drop 0 = dktJ19_init_0 := by decide +kernel
theorem dJ19_init_0 : decode cJ19_init 0 = .ok (.aload_n 0, 1) := dk_42 (dk_at dksJ19_init_0 0 rfl rfl)
theorem dJ19_init_1 : decode cJ19_init 1 = .ok (.invokespecial 1, 3) := dk_183 0 1 (dk_at dksJ19_init_0 1 rfl rfl)
theorem dJ19_init_4 : decode cJ19_init 4 = .ok (.aload_n 0, 1) := dk_42 (dk_at dksJ19_init_0 4 rfl rfl)
theorem dJ19_init_5 : decode cJ19_init 5 = .ok (.iconst 0, 1) := dk_3 (dk_at dksJ19_init_0 5 rfl rfl)
theorem dJ19_init_6 : decode cJ19_init 6 = .ok (.putfield 7, 3) := dk_181 0 7 (dk_at dksJ19_init_0 6 rfl rfl)
theorem dJ19_init_9 : decode cJ19_init 9 = .ok (.return_, 1) := dk_177 (dk_at dksJ19_init_0 9 rfl rfl)
abbrev cJ19_size : ByteArray := prog_72_method_16_code
def yJ19_size : MethodName := ⟨RJ19, "size", "()I"⟩
theorem dJ19_size_0 : decode cJ19_size 0 = .ok (.aload_n 0, 1) := by decide +kernel
theorem dJ19_size_1 : decode cJ19_size 1 = .ok (.getfield 7, 3) := by decide +kernel
theorem dJ19_size_4 : decode cJ19_size 4 = .ok (.ireturn, 1) := by decide +kernel
abbrev cJ19_get : ByteArray := prog_72_method_22_code
def yJ19_get : MethodName := ⟨RJ19, "get", "(I)Ljava/lang/Object;"⟩
def dkwJ19_get_0 : List UInt8 := [42, 27, 182, 0, 90, 42, 27, 182, 0, 86, 180, 0, 39, 176]
abbrev dktJ19_get_0 : List UInt8 := dkwJ19_get_0 ++ []
theorem dksJ19_get_0 : cJ19_get.data.toList.drop 0 = dktJ19_get_0 := by decide +kernel
theorem dJ19_get_0 : decode cJ19_get 0 = .ok (.aload_n 0, 1) := dk_42 (dk_at dksJ19_get_0 0 rfl rfl)
theorem dJ19_get_1 : decode cJ19_get 1 = .ok (.iload_n 1, 1) := dk_27 (dk_at dksJ19_get_0 1 rfl rfl)
theorem dJ19_get_2 : decode cJ19_get 2 = .ok (.invokevirtual 90, 3) := dk_182 0 90 (dk_at dksJ19_get_0 2 rfl rfl)
theorem dJ19_get_5 : decode cJ19_get 5 = .ok (.aload_n 0, 1) := dk_42 (dk_at dksJ19_get_0 5 rfl rfl)
theorem dJ19_get_6 : decode cJ19_get 6 = .ok (.iload_n 1, 1) := dk_27 (dk_at dksJ19_get_0 6 rfl rfl)
theorem dJ19_get_7 : decode cJ19_get 7 = .ok (.invokevirtual 86, 3) := dk_182 0 86 (dk_at dksJ19_get_0 7 rfl rfl)
theorem dJ19_get_10 : decode cJ19_get 10 = .ok (.getfield 39, 3) := dk_180 0 39 (dk_at dksJ19_get_0 10 rfl rfl)
theorem dJ19_get_13 : decode cJ19_get 13 = .ok (.areturn, 1) := dk_176 (dk_at dksJ19_get_0 13 rfl rfl)
abbrev cJ19_checkElementIndex : ByteArray := prog_72_method_29_code
def yJ19_checkElementIndex : MethodName := ⟨RJ19, "checkElementIndex", "(I)V"⟩
def dkwJ19_checkElementIndex_0 : List UInt8 := [42, 27, 182, 0, 115, 154, 0, 16, 187, 0, 119, 89, 42, 27, 182, 0, 121, 183, 0, 125, 191, 177]
abbrev dktJ19_checkElementIndex_0 : List UInt8 := dkwJ19_checkElementIndex_0 ++ []
theorem dksJ19_checkElementIndex_0 : cJ19_checkElementIndex.data.toList.drop 0 = dktJ19_checkElementIndex_0 := by decide +kernel
theorem dJ19_checkElementIndex_0 : decode cJ19_checkElementIndex 0 = .ok (.aload_n 0, 1) := dk_42 (dk_at dksJ19_checkElementIndex_0 0 rfl rfl)
theorem dJ19_checkElementIndex_1 : decode cJ19_checkElementIndex 1 = .ok (.iload_n 1, 1) := dk_27 (dk_at dksJ19_checkElementIndex_0 1 rfl rfl)
theorem dJ19_checkElementIndex_2 : decode cJ19_checkElementIndex 2 = .ok (.invokevirtual 115, 3) := dk_182 0 115 (dk_at dksJ19_checkElementIndex_0 2 rfl rfl)
theorem dJ19_checkElementIndex_5 : decode cJ19_checkElementIndex 5 = .ok (.ifCond .ne 16, 3) := dk_154 0 16 (dk_at dksJ19_checkElementIndex_0 5 rfl rfl)
theorem dJ19_checkElementIndex_8 : decode cJ19_checkElementIndex 8 = .ok (.new 119, 3) := dk_187 0 119 (dk_at dksJ19_checkElementIndex_0 8 rfl rfl)
theorem dJ19_checkElementIndex_11 : decode cJ19_checkElementIndex 11 = .ok (.dup, 1) := dk_89 (dk_at dksJ19_checkElementIndex_0 11 rfl rfl)
theorem dJ19_checkElementIndex_12 : decode cJ19_checkElementIndex 12 = .ok (.aload_n 0, 1) := dk_42 (dk_at dksJ19_checkElementIndex_0 12 rfl rfl)
theorem dJ19_checkElementIndex_13 : decode cJ19_checkElementIndex 13 = .ok (.iload_n 1, 1) := dk_27 (dk_at dksJ19_checkElementIndex_0 13 rfl rfl)
theorem dJ19_checkElementIndex_14 : decode cJ19_checkElementIndex 14 = .ok (.invokevirtual 121, 3) := dk_182 0 121 (dk_at dksJ19_checkElementIndex_0 14 rfl rfl)
theorem dJ19_checkElementIndex_17 : decode cJ19_checkElementIndex 17 = .ok (.invokespecial 125, 3) := dk_183 0 125 (dk_at dksJ19_checkElementIndex_0 17 rfl rfl)
theorem dJ19_checkElementIndex_20 : decode cJ19_checkElementIndex 20 = .ok (.athrow, 1) := dk_191 (dk_at dksJ19_checkElementIndex_0 20 rfl rfl)
theorem dJ19_checkElementIndex_21 : decode cJ19_checkElementIndex 21 = .ok (.return_, 1) := dk_177 (dk_at dksJ19_checkElementIndex_0 21 rfl rfl)
abbrev cJ19_isElementIndex : ByteArray := prog_72_method_26_code
def yJ19_isElementIndex : MethodName := ⟨RJ19, "isElementIndex", "(I)Z"⟩
def dkwJ19_isElementIndex_0 : List UInt8 := [27, 155, 0, 15, 27, 42, 180, 0, 7, 162, 0, 7, 4, 167, 0, 4, 3, 172]
abbrev dktJ19_isElementIndex_0 : List UInt8 := dkwJ19_isElementIndex_0 ++ []
theorem dksJ19_isElementIndex_0 : cJ19_isElementIndex.data.toList.drop 0 = dktJ19_isElementIndex_0 := by decide +kernel
theorem dJ19_isElementIndex_0 : decode cJ19_isElementIndex 0 = .ok (.iload_n 1, 1) := dk_27 (dk_at dksJ19_isElementIndex_0 0 rfl rfl)
theorem dJ19_isElementIndex_1 : decode cJ19_isElementIndex 1 = .ok (.ifCond .lt 15, 3) := dk_155 0 15 (dk_at dksJ19_isElementIndex_0 1 rfl rfl)
theorem dJ19_isElementIndex_4 : decode cJ19_isElementIndex 4 = .ok (.iload_n 1, 1) := dk_27 (dk_at dksJ19_isElementIndex_0 4 rfl rfl)
theorem dJ19_isElementIndex_5 : decode cJ19_isElementIndex 5 = .ok (.aload_n 0, 1) := dk_42 (dk_at dksJ19_isElementIndex_0 5 rfl rfl)
theorem dJ19_isElementIndex_6 : decode cJ19_isElementIndex 6 = .ok (.getfield 7, 3) := dk_180 0 7 (dk_at dksJ19_isElementIndex_0 6 rfl rfl)
theorem dJ19_isElementIndex_9 : decode cJ19_isElementIndex 9 = .ok (.if_icmp .ge 7, 3) := dk_162 0 7 (dk_at dksJ19_isElementIndex_0 9 rfl rfl)
theorem dJ19_isElementIndex_12 : decode cJ19_isElementIndex 12 = .ok (.iconst 1, 1) := dk_4 (dk_at dksJ19_isElementIndex_0 12 rfl rfl)
theorem dJ19_isElementIndex_13 : decode cJ19_isElementIndex 13 = .ok (.goto 4, 3) := dk_167 0 4 (dk_at dksJ19_isElementIndex_0 13 rfl rfl)
theorem dJ19_isElementIndex_16 : decode cJ19_isElementIndex 16 = .ok (.iconst 0, 1) := dk_3 (dk_at dksJ19_isElementIndex_0 16 rfl rfl)
theorem dJ19_isElementIndex_17 : decode cJ19_isElementIndex 17 = .ok (.ireturn, 1) := dk_172 (dk_at dksJ19_isElementIndex_0 17 rfl rfl)
abbrev cJ19_outOfBoundsMsg : ByteArray := prog_72_method_28_code
def yJ19_outOfBoundsMsg : MethodName := ⟨RJ19, "outOfBoundsMsg", "(I)Ljava/lang/String;"⟩
def dkwJ19_outOfBoundsMsg_1 : List UInt8 := [180, 0, 7, 182, 0, 106, 182, 0, 111, 176]
abbrev dktJ19_outOfBoundsMsg_1 : List UInt8 := dkwJ19_outOfBoundsMsg_1 ++ []
def dkwJ19_outOfBoundsMsg_0 : List UInt8 := [187, 0, 97, 89, 183, 0, 99, 18, 100, 182, 0, 102, 27, 182, 0, 106, 18, 109, 182, 0, 102, 42]
abbrev dktJ19_outOfBoundsMsg_0 : List UInt8 := dkwJ19_outOfBoundsMsg_0 ++ dktJ19_outOfBoundsMsg_1
theorem dksJ19_outOfBoundsMsg_0 : cJ19_outOfBoundsMsg.data.toList.drop 0 = dktJ19_outOfBoundsMsg_0 := by decide +kernel
theorem dksJ19_outOfBoundsMsg_1 : cJ19_outOfBoundsMsg.data.toList.drop 22 = dktJ19_outOfBoundsMsg_1 := dk_seg dksJ19_outOfBoundsMsg_0 22 rfl rfl
theorem dJ19_outOfBoundsMsg_0 : decode cJ19_outOfBoundsMsg 0 = .ok (.new 97, 3) := dk_187 0 97 (dk_at dksJ19_outOfBoundsMsg_0 0 rfl rfl)
theorem dJ19_outOfBoundsMsg_3 : decode cJ19_outOfBoundsMsg 3 = .ok (.dup, 1) := dk_89 (dk_at dksJ19_outOfBoundsMsg_0 3 rfl rfl)
theorem dJ19_outOfBoundsMsg_4 : decode cJ19_outOfBoundsMsg 4 = .ok (.invokespecial 99, 3) := dk_183 0 99 (dk_at dksJ19_outOfBoundsMsg_0 4 rfl rfl)
theorem dJ19_outOfBoundsMsg_7 : decode cJ19_outOfBoundsMsg 7 = .ok (.ldc 100, 2) := dk_18 100 (dk_at dksJ19_outOfBoundsMsg_0 7 rfl rfl)
theorem dJ19_outOfBoundsMsg_9 : decode cJ19_outOfBoundsMsg 9 = .ok (.invokevirtual 102, 3) := dk_182 0 102 (dk_at dksJ19_outOfBoundsMsg_0 9 rfl rfl)
theorem dJ19_outOfBoundsMsg_12 : decode cJ19_outOfBoundsMsg 12 = .ok (.iload_n 1, 1) := dk_27 (dk_at dksJ19_outOfBoundsMsg_0 12 rfl rfl)
theorem dJ19_outOfBoundsMsg_13 : decode cJ19_outOfBoundsMsg 13 = .ok (.invokevirtual 106, 3) := dk_182 0 106 (dk_at dksJ19_outOfBoundsMsg_0 13 rfl rfl)
theorem dJ19_outOfBoundsMsg_16 : decode cJ19_outOfBoundsMsg 16 = .ok (.ldc 109, 2) := dk_18 109 (dk_at dksJ19_outOfBoundsMsg_0 16 rfl rfl)
theorem dJ19_outOfBoundsMsg_18 : decode cJ19_outOfBoundsMsg 18 = .ok (.invokevirtual 102, 3) := dk_182 0 102 (dk_at dksJ19_outOfBoundsMsg_0 18 rfl rfl)
theorem dJ19_outOfBoundsMsg_21 : decode cJ19_outOfBoundsMsg 21 = .ok (.aload_n 0, 1) := dk_42 (dk_at dksJ19_outOfBoundsMsg_0 21 rfl rfl)
theorem dJ19_outOfBoundsMsg_22 : decode cJ19_outOfBoundsMsg 22 = .ok (.getfield 7, 3) := dk_180 0 7 (dk_at dksJ19_outOfBoundsMsg_1 0 rfl rfl)
theorem dJ19_outOfBoundsMsg_25 : decode cJ19_outOfBoundsMsg 25 = .ok (.invokevirtual 106, 3) := dk_182 0 106 (dk_at dksJ19_outOfBoundsMsg_1 3 rfl rfl)
theorem dJ19_outOfBoundsMsg_28 : decode cJ19_outOfBoundsMsg 28 = .ok (.invokevirtual 111, 3) := dk_182 0 111 (dk_at dksJ19_outOfBoundsMsg_1 6 rfl rfl)
theorem dJ19_outOfBoundsMsg_31 : decode cJ19_outOfBoundsMsg 31 = .ok (.areturn, 1) := dk_176 (dk_at dksJ19_outOfBoundsMsg_1 9 rfl rfl)
abbrev cJ19_node : ByteArray := prog_72_method_31_code
def yJ19_node : MethodName := ⟨RJ19, "node", "(I)Ljava/util/LinkedList$Node;"⟩
def dkwJ19_node_2 : List UInt8 := [29, 27, 164, 0, 14, 44, 180, 0, 30, 77, 132, 3, 255, 167, 255, 243, 44, 176]
abbrev dktJ19_node_2 : List UInt8 := dkwJ19_node_2 ++ []
def dkwJ19_node_1 : List UInt8 := [180, 0, 36, 77, 132, 3, 1, 167, 255, 243, 44, 176, 42, 180, 0, 27, 77, 42, 180, 0, 7, 4, 100, 62]
abbrev dktJ19_node_1 : List UInt8 := dkwJ19_node_1 ++ dktJ19_node_2
def dkwJ19_node_0 : List UInt8 := [27, 42, 180, 0, 7, 4, 122, 162, 0, 28, 42, 180, 0, 18, 77, 3, 62, 29, 27, 162, 0, 14, 44]
abbrev dktJ19_node_0 : List UInt8 := dkwJ19_node_0 ++ dktJ19_node_1
theorem dksJ19_node_0 : cJ19_node.data.toList.drop 0 = dktJ19_node_0 := by decide +kernel
theorem dksJ19_node_1 : cJ19_node.data.toList.drop 23 = dktJ19_node_1 := dk_seg dksJ19_node_0 23 rfl rfl
theorem dksJ19_node_2 : cJ19_node.data.toList.drop 47 = dktJ19_node_2 := dk_seg dksJ19_node_1 24 rfl rfl
theorem dJ19_node_0 : decode cJ19_node 0 = .ok (.iload_n 1, 1) := dk_27 (dk_at dksJ19_node_0 0 rfl rfl)
theorem dJ19_node_1 : decode cJ19_node 1 = .ok (.aload_n 0, 1) := dk_42 (dk_at dksJ19_node_0 1 rfl rfl)
theorem dJ19_node_2 : decode cJ19_node 2 = .ok (.getfield 7, 3) := dk_180 0 7 (dk_at dksJ19_node_0 2 rfl rfl)
theorem dJ19_node_5 : decode cJ19_node 5 = .ok (.iconst 1, 1) := dk_4 (dk_at dksJ19_node_0 5 rfl rfl)
theorem dJ19_node_6 : decode cJ19_node 6 = .ok (.ishr, 1) := dk_122 (dk_at dksJ19_node_0 6 rfl rfl)
theorem dJ19_node_7 : decode cJ19_node 7 = .ok (.if_icmp .ge 28, 3) := dk_162 0 28 (dk_at dksJ19_node_0 7 rfl rfl)
theorem dJ19_node_10 : decode cJ19_node 10 = .ok (.aload_n 0, 1) := dk_42 (dk_at dksJ19_node_0 10 rfl rfl)
theorem dJ19_node_11 : decode cJ19_node 11 = .ok (.getfield 18, 3) := dk_180 0 18 (dk_at dksJ19_node_0 11 rfl rfl)
theorem dJ19_node_14 : decode cJ19_node 14 = .ok (.astore_n 2, 1) := dk_77 (dk_at dksJ19_node_0 14 rfl rfl)
theorem dJ19_node_15 : decode cJ19_node 15 = .ok (.iconst 0, 1) := dk_3 (dk_at dksJ19_node_0 15 rfl rfl)
theorem dJ19_node_16 : decode cJ19_node 16 = .ok (.istore_n 3, 1) := dk_62 (dk_at dksJ19_node_0 16 rfl rfl)
theorem dJ19_node_17 : decode cJ19_node 17 = .ok (.iload_n 3, 1) := dk_29 (dk_at dksJ19_node_0 17 rfl rfl)
theorem dJ19_node_18 : decode cJ19_node 18 = .ok (.iload_n 1, 1) := dk_27 (dk_at dksJ19_node_0 18 rfl rfl)
theorem dJ19_node_19 : decode cJ19_node 19 = .ok (.if_icmp .ge 14, 3) := dk_162 0 14 (dk_at dksJ19_node_0 19 rfl rfl)
theorem dJ19_node_22 : decode cJ19_node 22 = .ok (.aload_n 2, 1) := dk_44 (dk_at dksJ19_node_0 22 rfl rfl)
theorem dJ19_node_23 : decode cJ19_node 23 = .ok (.getfield 36, 3) := dk_180 0 36 (dk_at dksJ19_node_1 0 rfl rfl)
theorem dJ19_node_26 : decode cJ19_node 26 = .ok (.astore_n 2, 1) := dk_77 (dk_at dksJ19_node_1 3 rfl rfl)
theorem dJ19_node_27 : decode cJ19_node 27 = .ok (.iinc 3 1, 3) := dk_132 3 1 (dk_at dksJ19_node_1 4 rfl rfl)
theorem dJ19_node_30 : decode cJ19_node 30 = .ok (.goto (-13), 3) := dk_167 255 243 (dk_at dksJ19_node_1 7 rfl rfl)
theorem dJ19_node_33 : decode cJ19_node 33 = .ok (.aload_n 2, 1) := dk_44 (dk_at dksJ19_node_1 10 rfl rfl)
theorem dJ19_node_34 : decode cJ19_node 34 = .ok (.areturn, 1) := dk_176 (dk_at dksJ19_node_1 11 rfl rfl)
theorem dJ19_node_35 : decode cJ19_node 35 = .ok (.aload_n 0, 1) := dk_42 (dk_at dksJ19_node_1 12 rfl rfl)
theorem dJ19_node_36 : decode cJ19_node 36 = .ok (.getfield 27, 3) := dk_180 0 27 (dk_at dksJ19_node_1 13 rfl rfl)
theorem dJ19_node_39 : decode cJ19_node 39 = .ok (.astore_n 2, 1) := dk_77 (dk_at dksJ19_node_1 16 rfl rfl)
theorem dJ19_node_40 : decode cJ19_node 40 = .ok (.aload_n 0, 1) := dk_42 (dk_at dksJ19_node_1 17 rfl rfl)
theorem dJ19_node_41 : decode cJ19_node 41 = .ok (.getfield 7, 3) := dk_180 0 7 (dk_at dksJ19_node_1 18 rfl rfl)
theorem dJ19_node_44 : decode cJ19_node 44 = .ok (.iconst 1, 1) := dk_4 (dk_at dksJ19_node_1 21 rfl rfl)
theorem dJ19_node_45 : decode cJ19_node 45 = .ok (.isub, 1) := dk_100 (dk_at dksJ19_node_1 22 rfl rfl)
theorem dJ19_node_46 : decode cJ19_node 46 = .ok (.istore_n 3, 1) := dk_62 (dk_at dksJ19_node_1 23 rfl rfl)
theorem dJ19_node_47 : decode cJ19_node 47 = .ok (.iload_n 3, 1) := dk_29 (dk_at dksJ19_node_2 0 rfl rfl)
theorem dJ19_node_48 : decode cJ19_node 48 = .ok (.iload_n 1, 1) := dk_27 (dk_at dksJ19_node_2 1 rfl rfl)
theorem dJ19_node_49 : decode cJ19_node 49 = .ok (.if_icmp .le 14, 3) := dk_164 0 14 (dk_at dksJ19_node_2 2 rfl rfl)
theorem dJ19_node_52 : decode cJ19_node 52 = .ok (.aload_n 2, 1) := dk_44 (dk_at dksJ19_node_2 5 rfl rfl)
theorem dJ19_node_53 : decode cJ19_node 53 = .ok (.getfield 30, 3) := dk_180 0 30 (dk_at dksJ19_node_2 6 rfl rfl)
theorem dJ19_node_56 : decode cJ19_node 56 = .ok (.astore_n 2, 1) := dk_77 (dk_at dksJ19_node_2 9 rfl rfl)
theorem dJ19_node_57 : decode cJ19_node 57 = .ok (.iinc 3 (-1), 3) := dk_132 3 255 (dk_at dksJ19_node_2 10 rfl rfl)
theorem dJ19_node_60 : decode cJ19_node 60 = .ok (.goto (-13), 3) := dk_167 255 243 (dk_at dksJ19_node_2 13 rfl rfl)
theorem dJ19_node_63 : decode cJ19_node 63 = .ok (.aload_n 2, 1) := dk_44 (dk_at dksJ19_node_2 16 rfl rfl)
theorem dJ19_node_64 : decode cJ19_node 64 = .ok (.areturn, 1) := dk_176 (dk_at dksJ19_node_2 17 rfl rfl)
abbrev cJ19_listIterator : ByteArray := prog_72_method_49_code
def yJ19_listIterator : MethodName := ⟨RJ19, "listIterator", "(I)Ljava/util/ListIterator;"⟩
def dkwJ19_listIterator_0 : List UInt8 := [42, 27, 182, 0, 76, 187, 0, 150, 89, 42, 27, 183, 0, 152, 176]
abbrev dktJ19_listIterator_0 : List UInt8 := dkwJ19_listIterator_0 ++ []
theorem dksJ19_listIterator_0 : cJ19_listIterator.data.toList.drop 0 = dktJ19_listIterator_0 := by decide +kernel
theorem dJ19_listIterator_0 : decode cJ19_listIterator 0 = .ok (.aload_n 0, 1) := dk_42 (dk_at dksJ19_listIterator_0 0 rfl rfl)
theorem dJ19_listIterator_1 : decode cJ19_listIterator 1 = .ok (.iload_n 1, 1) := dk_27 (dk_at dksJ19_listIterator_0 1 rfl rfl)
theorem dJ19_listIterator_2 : decode cJ19_listIterator 2 = .ok (.invokevirtual 76, 3) := dk_182 0 76 (dk_at dksJ19_listIterator_0 2 rfl rfl)
theorem dJ19_listIterator_5 : decode cJ19_listIterator 5 = .ok (.new 150, 3) := dk_187 0 150 (dk_at dksJ19_listIterator_0 5 rfl rfl)
theorem dJ19_listIterator_8 : decode cJ19_listIterator 8 = .ok (.dup, 1) := dk_89 (dk_at dksJ19_listIterator_0 8 rfl rfl)
theorem dJ19_listIterator_9 : decode cJ19_listIterator 9 = .ok (.aload_n 0, 1) := dk_42 (dk_at dksJ19_listIterator_0 9 rfl rfl)
theorem dJ19_listIterator_10 : decode cJ19_listIterator 10 = .ok (.iload_n 1, 1) := dk_27 (dk_at dksJ19_listIterator_0 10 rfl rfl)
theorem dJ19_listIterator_11 : decode cJ19_listIterator 11 = .ok (.invokespecial 152, 3) := dk_183 0 152 (dk_at dksJ19_listIterator_0 11 rfl rfl)
theorem dJ19_listIterator_14 : decode cJ19_listIterator 14 = .ok (.areturn, 1) := dk_176 (dk_at dksJ19_listIterator_0 14 rfl rfl)
abbrev cJ19_checkPositionIndex : ByteArray := prog_72_method_30_code
def yJ19_checkPositionIndex : MethodName := ⟨RJ19, "checkPositionIndex", "(I)V"⟩
def dkwJ19_checkPositionIndex_0 : List UInt8 := [42, 27, 182, 0, 128, 154, 0, 16, 187, 0, 119, 89, 42, 27, 182, 0, 121, 183, 0, 125, 191, 177]
abbrev dktJ19_checkPositionIndex_0 : List UInt8 := dkwJ19_checkPositionIndex_0 ++ []
theorem dksJ19_checkPositionIndex_0 : cJ19_checkPositionIndex.data.toList.drop 0 = dktJ19_checkPositionIndex_0 := by decide +kernel
theorem dJ19_checkPositionIndex_0 : decode cJ19_checkPositionIndex 0 = .ok (.aload_n 0, 1) := dk_42 (dk_at dksJ19_checkPositionIndex_0 0 rfl rfl)
theorem dJ19_checkPositionIndex_1 : decode cJ19_checkPositionIndex 1 = .ok (.iload_n 1, 1) := dk_27 (dk_at dksJ19_checkPositionIndex_0 1 rfl rfl)
theorem dJ19_checkPositionIndex_2 : decode cJ19_checkPositionIndex 2 = .ok (.invokevirtual 128, 3) := dk_182 0 128 (dk_at dksJ19_checkPositionIndex_0 2 rfl rfl)
theorem dJ19_checkPositionIndex_5 : decode cJ19_checkPositionIndex 5 = .ok (.ifCond .ne 16, 3) := dk_154 0 16 (dk_at dksJ19_checkPositionIndex_0 5 rfl rfl)
theorem dJ19_checkPositionIndex_8 : decode cJ19_checkPositionIndex 8 = .ok (.new 119, 3) := dk_187 0 119 (dk_at dksJ19_checkPositionIndex_0 8 rfl rfl)
theorem dJ19_checkPositionIndex_11 : decode cJ19_checkPositionIndex 11 = .ok (.dup, 1) := dk_89 (dk_at dksJ19_checkPositionIndex_0 11 rfl rfl)
theorem dJ19_checkPositionIndex_12 : decode cJ19_checkPositionIndex 12 = .ok (.aload_n 0, 1) := dk_42 (dk_at dksJ19_checkPositionIndex_0 12 rfl rfl)
theorem dJ19_checkPositionIndex_13 : decode cJ19_checkPositionIndex 13 = .ok (.iload_n 1, 1) := dk_27 (dk_at dksJ19_checkPositionIndex_0 13 rfl rfl)
theorem dJ19_checkPositionIndex_14 : decode cJ19_checkPositionIndex 14 = .ok (.invokevirtual 121, 3) := dk_182 0 121 (dk_at dksJ19_checkPositionIndex_0 14 rfl rfl)
theorem dJ19_checkPositionIndex_17 : decode cJ19_checkPositionIndex 17 = .ok (.invokespecial 125, 3) := dk_183 0 125 (dk_at dksJ19_checkPositionIndex_0 17 rfl rfl)
theorem dJ19_checkPositionIndex_20 : decode cJ19_checkPositionIndex 20 = .ok (.athrow, 1) := dk_191 (dk_at dksJ19_checkPositionIndex_0 20 rfl rfl)
theorem dJ19_checkPositionIndex_21 : decode cJ19_checkPositionIndex 21 = .ok (.return_, 1) := dk_177 (dk_at dksJ19_checkPositionIndex_0 21 rfl rfl)
abbrev cJ19_isPositionIndex : ByteArray := prog_72_method_27_code
def yJ19_isPositionIndex : MethodName := ⟨RJ19, "isPositionIndex", "(I)Z"⟩
def dkwJ19_isPositionIndex_0 : List UInt8 := [27, 155, 0, 15, 27, 42, 180, 0, 7, 163, 0, 7, 4, 167, 0, 4, 3, 172]
abbrev dktJ19_isPositionIndex_0 : List UInt8 := dkwJ19_isPositionIndex_0 ++ []
theorem dksJ19_isPositionIndex_0 : cJ19_isPositionIndex.data.toList.drop 0 = dktJ19_isPositionIndex_0 := by decide +kernel
theorem dJ19_isPositionIndex_0 : decode cJ19_isPositionIndex 0 = .ok (.iload_n 1, 1) := dk_27 (dk_at dksJ19_isPositionIndex_0 0 rfl rfl)
theorem dJ19_isPositionIndex_1 : decode cJ19_isPositionIndex 1 = .ok (.ifCond .lt 15, 3) := dk_155 0 15 (dk_at dksJ19_isPositionIndex_0 1 rfl rfl)
theorem dJ19_isPositionIndex_4 : decode cJ19_isPositionIndex 4 = .ok (.iload_n 1, 1) := dk_27 (dk_at dksJ19_isPositionIndex_0 4 rfl rfl)
theorem dJ19_isPositionIndex_5 : decode cJ19_isPositionIndex 5 = .ok (.aload_n 0, 1) := dk_42 (dk_at dksJ19_isPositionIndex_0 5 rfl rfl)
theorem dJ19_isPositionIndex_6 : decode cJ19_isPositionIndex 6 = .ok (.getfield 7, 3) := dk_180 0 7 (dk_at dksJ19_isPositionIndex_0 6 rfl rfl)
theorem dJ19_isPositionIndex_9 : decode cJ19_isPositionIndex 9 = .ok (.if_icmp .gt 7, 3) := dk_163 0 7 (dk_at dksJ19_isPositionIndex_0 9 rfl rfl)
theorem dJ19_isPositionIndex_12 : decode cJ19_isPositionIndex 12 = .ok (.iconst 1, 1) := dk_4 (dk_at dksJ19_isPositionIndex_0 12 rfl rfl)
theorem dJ19_isPositionIndex_13 : decode cJ19_isPositionIndex 13 = .ok (.goto 4, 3) := dk_167 0 4 (dk_at dksJ19_isPositionIndex_0 13 rfl rfl)
theorem dJ19_isPositionIndex_16 : decode cJ19_isPositionIndex 16 = .ok (.iconst 0, 1) := dk_3 (dk_at dksJ19_isPositionIndex_0 16 rfl rfl)
theorem dJ19_isPositionIndex_17 : decode cJ19_isPositionIndex 17 = .ok (.ireturn, 1) := dk_172 (dk_at dksJ19_isPositionIndex_0 17 rfl rfl)
abbrev cJ19_remove : ByteArray := prog_72_method_25_code
def yJ19_remove : MethodName := ⟨RJ19, "remove", "(I)Ljava/lang/Object;"⟩
def dkwJ19_remove_0 : List UInt8 := [42, 27, 182, 0, 90, 42, 42, 27, 182, 0, 86, 182, 0, 64, 176]
abbrev dktJ19_remove_0 : List UInt8 := dkwJ19_remove_0 ++ []
theorem dksJ19_remove_0 : cJ19_remove.data.toList.drop 0 = dktJ19_remove_0 := by decide +kernel
theorem dJ19_remove_0 : decode cJ19_remove 0 = .ok (.aload_n 0, 1) := dk_42 (dk_at dksJ19_remove_0 0 rfl rfl)
theorem dJ19_remove_1 : decode cJ19_remove 1 = .ok (.iload_n 1, 1) := dk_27 (dk_at dksJ19_remove_0 1 rfl rfl)
theorem dJ19_remove_2 : decode cJ19_remove 2 = .ok (.invokevirtual 90, 3) := dk_182 0 90 (dk_at dksJ19_remove_0 2 rfl rfl)
theorem dJ19_remove_5 : decode cJ19_remove 5 = .ok (.aload_n 0, 1) := dk_42 (dk_at dksJ19_remove_0 5 rfl rfl)
theorem dJ19_remove_6 : decode cJ19_remove 6 = .ok (.aload_n 0, 1) := dk_42 (dk_at dksJ19_remove_0 6 rfl rfl)
theorem dJ19_remove_7 : decode cJ19_remove 7 = .ok (.iload_n 1, 1) := dk_27 (dk_at dksJ19_remove_0 7 rfl rfl)
theorem dJ19_remove_8 : decode cJ19_remove 8 = .ok (.invokevirtual 86, 3) := dk_182 0 86 (dk_at dksJ19_remove_0 8 rfl rfl)
theorem dJ19_remove_11 : decode cJ19_remove 11 = .ok (.invokevirtual 64, 3) := dk_182 0 64 (dk_at dksJ19_remove_0 11 rfl rfl)
theorem dJ19_remove_14 : decode cJ19_remove 14 = .ok (.areturn, 1) := dk_176 (dk_at dksJ19_remove_0 14 rfl rfl)
abbrev cJ19_unlink : ByteArray := prog_72_method_8_code
def yJ19_unlink : MethodName := ⟨RJ19, "unlink", "(Ljava/util/LinkedList$Node;)Ljava/lang/Object;"⟩
def dkwJ19_unlink_3 : List UInt8 := [180, 0, 7, 4, 100, 181, 0, 7, 42, 89, 180, 0, 33, 4, 96, 181, 0, 33, 44, 176]
abbrev dktJ19_unlink_3 : List UInt8 := dkwJ19_unlink_3 ++ []
def dkwJ19_unlink_2 : List UInt8 := [181, 0, 27, 167, 0, 14, 45, 25, 4, 181, 0, 30, 43, 1, 181, 0, 36, 43, 1, 181, 0, 39, 42, 89]
abbrev dktJ19_unlink_2 : List UInt8 := dkwJ19_unlink_2 ++ dktJ19_unlink_3
def dkwJ19_unlink_1 : List UInt8 := [181, 0, 18, 167, 0, 14, 25, 4, 45, 181, 0, 36, 43, 1, 181, 0, 30, 45, 199, 0, 12, 42, 25, 4]
abbrev dktJ19_unlink_1 : List UInt8 := dkwJ19_unlink_1 ++ dktJ19_unlink_2
def dkwJ19_unlink_0 : List UInt8 := [43, 180, 0, 39, 77, 43, 180, 0, 36, 78, 43, 180, 0, 30, 58, 4, 25, 4, 199, 0, 11, 42, 45]
abbrev dktJ19_unlink_0 : List UInt8 := dkwJ19_unlink_0 ++ dktJ19_unlink_1
theorem dksJ19_unlink_0 : cJ19_unlink.data.toList.drop 0 = dktJ19_unlink_0 := by decide +kernel
theorem dksJ19_unlink_1 : cJ19_unlink.data.toList.drop 23 = dktJ19_unlink_1 := dk_seg dksJ19_unlink_0 23 rfl rfl
theorem dksJ19_unlink_2 : cJ19_unlink.data.toList.drop 47 = dktJ19_unlink_2 := dk_seg dksJ19_unlink_1 24 rfl rfl
theorem dksJ19_unlink_3 : cJ19_unlink.data.toList.drop 71 = dktJ19_unlink_3 := dk_seg dksJ19_unlink_2 24 rfl rfl
theorem dJ19_unlink_0 : decode cJ19_unlink 0 = .ok (.aload_n 1, 1) := dk_43 (dk_at dksJ19_unlink_0 0 rfl rfl)
theorem dJ19_unlink_1 : decode cJ19_unlink 1 = .ok (.getfield 39, 3) := dk_180 0 39 (dk_at dksJ19_unlink_0 1 rfl rfl)
theorem dJ19_unlink_4 : decode cJ19_unlink 4 = .ok (.astore_n 2, 1) := dk_77 (dk_at dksJ19_unlink_0 4 rfl rfl)
theorem dJ19_unlink_5 : decode cJ19_unlink 5 = .ok (.aload_n 1, 1) := dk_43 (dk_at dksJ19_unlink_0 5 rfl rfl)
theorem dJ19_unlink_6 : decode cJ19_unlink 6 = .ok (.getfield 36, 3) := dk_180 0 36 (dk_at dksJ19_unlink_0 6 rfl rfl)
theorem dJ19_unlink_9 : decode cJ19_unlink 9 = .ok (.astore_n 3, 1) := dk_78 (dk_at dksJ19_unlink_0 9 rfl rfl)
theorem dJ19_unlink_10 : decode cJ19_unlink 10 = .ok (.aload_n 1, 1) := dk_43 (dk_at dksJ19_unlink_0 10 rfl rfl)
theorem dJ19_unlink_11 : decode cJ19_unlink 11 = .ok (.getfield 30, 3) := dk_180 0 30 (dk_at dksJ19_unlink_0 11 rfl rfl)
theorem dJ19_unlink_14 : decode cJ19_unlink 14 = .ok (.astore 4, 2) := dk_58 4 (dk_at dksJ19_unlink_0 14 rfl rfl)
theorem dJ19_unlink_16 : decode cJ19_unlink 16 = .ok (.aload 4, 2) := dk_25 4 (dk_at dksJ19_unlink_0 16 rfl rfl)
theorem dJ19_unlink_18 : decode cJ19_unlink 18 = .ok (.ifnonnull 11, 3) := dk_199 0 11 (dk_at dksJ19_unlink_0 18 rfl rfl)
theorem dJ19_unlink_21 : decode cJ19_unlink 21 = .ok (.aload_n 0, 1) := dk_42 (dk_at dksJ19_unlink_0 21 rfl rfl)
theorem dJ19_unlink_22 : decode cJ19_unlink 22 = .ok (.aload_n 3, 1) := dk_45 (dk_at dksJ19_unlink_0 22 rfl rfl)
theorem dJ19_unlink_23 : decode cJ19_unlink 23 = .ok (.putfield 18, 3) := dk_181 0 18 (dk_at dksJ19_unlink_1 0 rfl rfl)
theorem dJ19_unlink_26 : decode cJ19_unlink 26 = .ok (.goto 14, 3) := dk_167 0 14 (dk_at dksJ19_unlink_1 3 rfl rfl)
theorem dJ19_unlink_29 : decode cJ19_unlink 29 = .ok (.aload 4, 2) := dk_25 4 (dk_at dksJ19_unlink_1 6 rfl rfl)
theorem dJ19_unlink_31 : decode cJ19_unlink 31 = .ok (.aload_n 3, 1) := dk_45 (dk_at dksJ19_unlink_1 8 rfl rfl)
theorem dJ19_unlink_32 : decode cJ19_unlink 32 = .ok (.putfield 36, 3) := dk_181 0 36 (dk_at dksJ19_unlink_1 9 rfl rfl)
theorem dJ19_unlink_35 : decode cJ19_unlink 35 = .ok (.aload_n 1, 1) := dk_43 (dk_at dksJ19_unlink_1 12 rfl rfl)
theorem dJ19_unlink_36 : decode cJ19_unlink 36 = .ok (.aconst_null, 1) := dk_1 (dk_at dksJ19_unlink_1 13 rfl rfl)
theorem dJ19_unlink_37 : decode cJ19_unlink 37 = .ok (.putfield 30, 3) := dk_181 0 30 (dk_at dksJ19_unlink_1 14 rfl rfl)
theorem dJ19_unlink_40 : decode cJ19_unlink 40 = .ok (.aload_n 3, 1) := dk_45 (dk_at dksJ19_unlink_1 17 rfl rfl)
theorem dJ19_unlink_41 : decode cJ19_unlink 41 = .ok (.ifnonnull 12, 3) := dk_199 0 12 (dk_at dksJ19_unlink_1 18 rfl rfl)
theorem dJ19_unlink_44 : decode cJ19_unlink 44 = .ok (.aload_n 0, 1) := dk_42 (dk_at dksJ19_unlink_1 21 rfl rfl)
theorem dJ19_unlink_45 : decode cJ19_unlink 45 = .ok (.aload 4, 2) := dk_25 4 (dk_at dksJ19_unlink_1 22 rfl rfl)
theorem dJ19_unlink_47 : decode cJ19_unlink 47 = .ok (.putfield 27, 3) := dk_181 0 27 (dk_at dksJ19_unlink_2 0 rfl rfl)
theorem dJ19_unlink_50 : decode cJ19_unlink 50 = .ok (.goto 14, 3) := dk_167 0 14 (dk_at dksJ19_unlink_2 3 rfl rfl)
theorem dJ19_unlink_53 : decode cJ19_unlink 53 = .ok (.aload_n 3, 1) := dk_45 (dk_at dksJ19_unlink_2 6 rfl rfl)
theorem dJ19_unlink_54 : decode cJ19_unlink 54 = .ok (.aload 4, 2) := dk_25 4 (dk_at dksJ19_unlink_2 7 rfl rfl)
theorem dJ19_unlink_56 : decode cJ19_unlink 56 = .ok (.putfield 30, 3) := dk_181 0 30 (dk_at dksJ19_unlink_2 9 rfl rfl)
theorem dJ19_unlink_59 : decode cJ19_unlink 59 = .ok (.aload_n 1, 1) := dk_43 (dk_at dksJ19_unlink_2 12 rfl rfl)
theorem dJ19_unlink_60 : decode cJ19_unlink 60 = .ok (.aconst_null, 1) := dk_1 (dk_at dksJ19_unlink_2 13 rfl rfl)
theorem dJ19_unlink_61 : decode cJ19_unlink 61 = .ok (.putfield 36, 3) := dk_181 0 36 (dk_at dksJ19_unlink_2 14 rfl rfl)
theorem dJ19_unlink_64 : decode cJ19_unlink 64 = .ok (.aload_n 1, 1) := dk_43 (dk_at dksJ19_unlink_2 17 rfl rfl)
theorem dJ19_unlink_65 : decode cJ19_unlink 65 = .ok (.aconst_null, 1) := dk_1 (dk_at dksJ19_unlink_2 18 rfl rfl)
theorem dJ19_unlink_66 : decode cJ19_unlink 66 = .ok (.putfield 39, 3) := dk_181 0 39 (dk_at dksJ19_unlink_2 19 rfl rfl)
theorem dJ19_unlink_69 : decode cJ19_unlink 69 = .ok (.aload_n 0, 1) := dk_42 (dk_at dksJ19_unlink_2 22 rfl rfl)
theorem dJ19_unlink_70 : decode cJ19_unlink 70 = .ok (.dup, 1) := dk_89 (dk_at dksJ19_unlink_2 23 rfl rfl)
theorem dJ19_unlink_71 : decode cJ19_unlink 71 = .ok (.getfield 7, 3) := dk_180 0 7 (dk_at dksJ19_unlink_3 0 rfl rfl)
theorem dJ19_unlink_74 : decode cJ19_unlink 74 = .ok (.iconst 1, 1) := dk_4 (dk_at dksJ19_unlink_3 3 rfl rfl)
theorem dJ19_unlink_75 : decode cJ19_unlink 75 = .ok (.isub, 1) := dk_100 (dk_at dksJ19_unlink_3 4 rfl rfl)
theorem dJ19_unlink_76 : decode cJ19_unlink 76 = .ok (.putfield 7, 3) := dk_181 0 7 (dk_at dksJ19_unlink_3 5 rfl rfl)
theorem dJ19_unlink_79 : decode cJ19_unlink 79 = .ok (.aload_n 0, 1) := dk_42 (dk_at dksJ19_unlink_3 8 rfl rfl)
theorem dJ19_unlink_80 : decode cJ19_unlink 80 = .ok (.dup, 1) := dk_89 (dk_at dksJ19_unlink_3 9 rfl rfl)
theorem dJ19_unlink_81 : decode cJ19_unlink 81 = .ok (.getfield 33, 3) := dk_180 0 33 (dk_at dksJ19_unlink_3 10 rfl rfl)
theorem dJ19_unlink_84 : decode cJ19_unlink 84 = .ok (.iconst 1, 1) := dk_4 (dk_at dksJ19_unlink_3 13 rfl rfl)
theorem dJ19_unlink_85 : decode cJ19_unlink 85 = .ok (.iadd, 1) := dk_96 (dk_at dksJ19_unlink_3 14 rfl rfl)
theorem dJ19_unlink_86 : decode cJ19_unlink 86 = .ok (.putfield 33, 3) := dk_181 0 33 (dk_at dksJ19_unlink_3 15 rfl rfl)
theorem dJ19_unlink_89 : decode cJ19_unlink 89 = .ok (.aload_n 2, 1) := dk_44 (dk_at dksJ19_unlink_3 18 rfl rfl)
theorem dJ19_unlink_90 : decode cJ19_unlink 90 = .ok (.areturn, 1) := dk_176 (dk_at dksJ19_unlink_3 19 rfl rfl)
abbrev cJ19_addLast : ByteArray := prog_72_method_14_code
def yJ19_addLast : MethodName := ⟨RJ19, "addLast", "(Ljava/lang/Object;)V"⟩
def dkwJ19_addLast_0 : List UInt8 := [42, 43, 182, 0, 57, 177]
abbrev dktJ19_addLast_0 : List UInt8 := dkwJ19_addLast_0 ++ []
theorem dksJ19_addLast_0 : cJ19_addLast.data.toList.drop 0 = dktJ19_addLast_0 := by decide +kernel
theorem dJ19_addLast_0 : decode cJ19_addLast 0 = .ok (.aload_n 0, 1) := dk_42 (dk_at dksJ19_addLast_0 0 rfl rfl)
theorem dJ19_addLast_1 : decode cJ19_addLast 1 = .ok (.aload_n 1, 1) := dk_43 (dk_at dksJ19_addLast_0 1 rfl rfl)
theorem dJ19_addLast_2 : decode cJ19_addLast 2 = .ok (.invokevirtual 57, 3) := dk_182 0 57 (dk_at dksJ19_addLast_0 2 rfl rfl)
theorem dJ19_addLast_5 : decode cJ19_addLast 5 = .ok (.return_, 1) := dk_177 (dk_at dksJ19_addLast_0 5 rfl rfl)
abbrev cJ19_linkLast : ByteArray := prog_72_method_4_code
def yJ19_linkLast : MethodName := ⟨RJ19, "linkLast", "(Ljava/lang/Object;)V"⟩
def dkwJ19_linkLast_2 : List UInt8 := [181, 0, 7, 42, 89, 180, 0, 33, 4, 96, 181, 0, 33, 177]
abbrev dktJ19_linkLast_2 : List UInt8 := dkwJ19_linkLast_2 ++ []
def dkwJ19_linkLast_1 : List UInt8 := [199, 0, 11, 42, 45, 181, 0, 18, 167, 0, 8, 44, 45, 181, 0, 36, 42, 89, 180, 0, 7, 4, 96]
abbrev dktJ19_linkLast_1 : List UInt8 := dkwJ19_linkLast_1 ++ dktJ19_linkLast_2
def dkwJ19_linkLast_0 : List UInt8 := [42, 180, 0, 27, 77, 187, 0, 22, 89, 44, 43, 1, 183, 0, 24, 78, 42, 45, 181, 0, 27, 44]
abbrev dktJ19_linkLast_0 : List UInt8 := dkwJ19_linkLast_0 ++ dktJ19_linkLast_1
theorem dksJ19_linkLast_0 : cJ19_linkLast.data.toList.drop 0 = dktJ19_linkLast_0 := by decide +kernel
theorem dksJ19_linkLast_1 : cJ19_linkLast.data.toList.drop 22 = dktJ19_linkLast_1 := dk_seg dksJ19_linkLast_0 22 rfl rfl
theorem dksJ19_linkLast_2 : cJ19_linkLast.data.toList.drop 45 = dktJ19_linkLast_2 := dk_seg dksJ19_linkLast_1 23 rfl rfl
theorem dJ19_linkLast_0 : decode cJ19_linkLast 0 = .ok (.aload_n 0, 1) := dk_42 (dk_at dksJ19_linkLast_0 0 rfl rfl)
theorem dJ19_linkLast_1 : decode cJ19_linkLast 1 = .ok (.getfield 27, 3) := dk_180 0 27 (dk_at dksJ19_linkLast_0 1 rfl rfl)
theorem dJ19_linkLast_4 : decode cJ19_linkLast 4 = .ok (.astore_n 2, 1) := dk_77 (dk_at dksJ19_linkLast_0 4 rfl rfl)
theorem dJ19_linkLast_5 : decode cJ19_linkLast 5 = .ok (.new 22, 3) := dk_187 0 22 (dk_at dksJ19_linkLast_0 5 rfl rfl)
theorem dJ19_linkLast_8 : decode cJ19_linkLast 8 = .ok (.dup, 1) := dk_89 (dk_at dksJ19_linkLast_0 8 rfl rfl)
theorem dJ19_linkLast_9 : decode cJ19_linkLast 9 = .ok (.aload_n 2, 1) := dk_44 (dk_at dksJ19_linkLast_0 9 rfl rfl)
theorem dJ19_linkLast_10 : decode cJ19_linkLast 10 = .ok (.aload_n 1, 1) := dk_43 (dk_at dksJ19_linkLast_0 10 rfl rfl)
theorem dJ19_linkLast_11 : decode cJ19_linkLast 11 = .ok (.aconst_null, 1) := dk_1 (dk_at dksJ19_linkLast_0 11 rfl rfl)
theorem dJ19_linkLast_12 : decode cJ19_linkLast 12 = .ok (.invokespecial 24, 3) := dk_183 0 24 (dk_at dksJ19_linkLast_0 12 rfl rfl)
theorem dJ19_linkLast_15 : decode cJ19_linkLast 15 = .ok (.astore_n 3, 1) := dk_78 (dk_at dksJ19_linkLast_0 15 rfl rfl)
theorem dJ19_linkLast_16 : decode cJ19_linkLast 16 = .ok (.aload_n 0, 1) := dk_42 (dk_at dksJ19_linkLast_0 16 rfl rfl)
theorem dJ19_linkLast_17 : decode cJ19_linkLast 17 = .ok (.aload_n 3, 1) := dk_45 (dk_at dksJ19_linkLast_0 17 rfl rfl)
theorem dJ19_linkLast_18 : decode cJ19_linkLast 18 = .ok (.putfield 27, 3) := dk_181 0 27 (dk_at dksJ19_linkLast_0 18 rfl rfl)
theorem dJ19_linkLast_21 : decode cJ19_linkLast 21 = .ok (.aload_n 2, 1) := dk_44 (dk_at dksJ19_linkLast_0 21 rfl rfl)
theorem dJ19_linkLast_22 : decode cJ19_linkLast 22 = .ok (.ifnonnull 11, 3) := dk_199 0 11 (dk_at dksJ19_linkLast_1 0 rfl rfl)
theorem dJ19_linkLast_25 : decode cJ19_linkLast 25 = .ok (.aload_n 0, 1) := dk_42 (dk_at dksJ19_linkLast_1 3 rfl rfl)
theorem dJ19_linkLast_26 : decode cJ19_linkLast 26 = .ok (.aload_n 3, 1) := dk_45 (dk_at dksJ19_linkLast_1 4 rfl rfl)
theorem dJ19_linkLast_27 : decode cJ19_linkLast 27 = .ok (.putfield 18, 3) := dk_181 0 18 (dk_at dksJ19_linkLast_1 5 rfl rfl)
theorem dJ19_linkLast_30 : decode cJ19_linkLast 30 = .ok (.goto 8, 3) := dk_167 0 8 (dk_at dksJ19_linkLast_1 8 rfl rfl)
theorem dJ19_linkLast_33 : decode cJ19_linkLast 33 = .ok (.aload_n 2, 1) := dk_44 (dk_at dksJ19_linkLast_1 11 rfl rfl)
theorem dJ19_linkLast_34 : decode cJ19_linkLast 34 = .ok (.aload_n 3, 1) := dk_45 (dk_at dksJ19_linkLast_1 12 rfl rfl)
theorem dJ19_linkLast_35 : decode cJ19_linkLast 35 = .ok (.putfield 36, 3) := dk_181 0 36 (dk_at dksJ19_linkLast_1 13 rfl rfl)
theorem dJ19_linkLast_38 : decode cJ19_linkLast 38 = .ok (.aload_n 0, 1) := dk_42 (dk_at dksJ19_linkLast_1 16 rfl rfl)
theorem dJ19_linkLast_39 : decode cJ19_linkLast 39 = .ok (.dup, 1) := dk_89 (dk_at dksJ19_linkLast_1 17 rfl rfl)
theorem dJ19_linkLast_40 : decode cJ19_linkLast 40 = .ok (.getfield 7, 3) := dk_180 0 7 (dk_at dksJ19_linkLast_1 18 rfl rfl)
theorem dJ19_linkLast_43 : decode cJ19_linkLast 43 = .ok (.iconst 1, 1) := dk_4 (dk_at dksJ19_linkLast_1 21 rfl rfl)
theorem dJ19_linkLast_44 : decode cJ19_linkLast 44 = .ok (.iadd, 1) := dk_96 (dk_at dksJ19_linkLast_1 22 rfl rfl)
theorem dJ19_linkLast_45 : decode cJ19_linkLast 45 = .ok (.putfield 7, 3) := dk_181 0 7 (dk_at dksJ19_linkLast_2 0 rfl rfl)
theorem dJ19_linkLast_48 : decode cJ19_linkLast 48 = .ok (.aload_n 0, 1) := dk_42 (dk_at dksJ19_linkLast_2 3 rfl rfl)
theorem dJ19_linkLast_49 : decode cJ19_linkLast 49 = .ok (.dup, 1) := dk_89 (dk_at dksJ19_linkLast_2 4 rfl rfl)
theorem dJ19_linkLast_50 : decode cJ19_linkLast 50 = .ok (.getfield 33, 3) := dk_180 0 33 (dk_at dksJ19_linkLast_2 5 rfl rfl)
theorem dJ19_linkLast_53 : decode cJ19_linkLast 53 = .ok (.iconst 1, 1) := dk_4 (dk_at dksJ19_linkLast_2 8 rfl rfl)
theorem dJ19_linkLast_54 : decode cJ19_linkLast 54 = .ok (.iadd, 1) := dk_96 (dk_at dksJ19_linkLast_2 9 rfl rfl)
theorem dJ19_linkLast_55 : decode cJ19_linkLast 55 = .ok (.putfield 33, 3) := dk_181 0 33 (dk_at dksJ19_linkLast_2 10 rfl rfl)
theorem dJ19_linkLast_58 : decode cJ19_linkLast 58 = .ok (.return_, 1) := dk_177 (dk_at dksJ19_linkLast_2 13 rfl rfl)
abbrev cJ19_set : ByteArray := prog_72_method_23_code
def yJ19_set : MethodName := ⟨RJ19, "set", "(ILjava/lang/Object;)Ljava/lang/Object;"⟩
def dkwJ19_set_1 : List UInt8 := [176]
abbrev dktJ19_set_1 : List UInt8 := dkwJ19_set_1 ++ []
def dkwJ19_set_0 : List UInt8 := [42, 27, 182, 0, 90, 42, 27, 182, 0, 86, 78, 45, 180, 0, 39, 58, 4, 45, 44, 181, 0, 39, 25, 4]
abbrev dktJ19_set_0 : List UInt8 := dkwJ19_set_0 ++ dktJ19_set_1
theorem dksJ19_set_0 : cJ19_set.data.toList.drop 0 = dktJ19_set_0 := by decide +kernel
theorem dksJ19_set_1 : cJ19_set.data.toList.drop 24 = dktJ19_set_1 := dk_seg dksJ19_set_0 24 rfl rfl
theorem dJ19_set_0 : decode cJ19_set 0 = .ok (.aload_n 0, 1) := dk_42 (dk_at dksJ19_set_0 0 rfl rfl)
theorem dJ19_set_1 : decode cJ19_set 1 = .ok (.iload_n 1, 1) := dk_27 (dk_at dksJ19_set_0 1 rfl rfl)
theorem dJ19_set_2 : decode cJ19_set 2 = .ok (.invokevirtual 90, 3) := dk_182 0 90 (dk_at dksJ19_set_0 2 rfl rfl)
theorem dJ19_set_5 : decode cJ19_set 5 = .ok (.aload_n 0, 1) := dk_42 (dk_at dksJ19_set_0 5 rfl rfl)
theorem dJ19_set_6 : decode cJ19_set 6 = .ok (.iload_n 1, 1) := dk_27 (dk_at dksJ19_set_0 6 rfl rfl)
theorem dJ19_set_7 : decode cJ19_set 7 = .ok (.invokevirtual 86, 3) := dk_182 0 86 (dk_at dksJ19_set_0 7 rfl rfl)
theorem dJ19_set_10 : decode cJ19_set 10 = .ok (.astore_n 3, 1) := dk_78 (dk_at dksJ19_set_0 10 rfl rfl)
theorem dJ19_set_11 : decode cJ19_set 11 = .ok (.aload_n 3, 1) := dk_45 (dk_at dksJ19_set_0 11 rfl rfl)
theorem dJ19_set_12 : decode cJ19_set 12 = .ok (.getfield 39, 3) := dk_180 0 39 (dk_at dksJ19_set_0 12 rfl rfl)
theorem dJ19_set_15 : decode cJ19_set 15 = .ok (.astore 4, 2) := dk_58 4 (dk_at dksJ19_set_0 15 rfl rfl)
theorem dJ19_set_17 : decode cJ19_set 17 = .ok (.aload_n 3, 1) := dk_45 (dk_at dksJ19_set_0 17 rfl rfl)
theorem dJ19_set_18 : decode cJ19_set 18 = .ok (.aload_n 2, 1) := dk_44 (dk_at dksJ19_set_0 18 rfl rfl)
theorem dJ19_set_19 : decode cJ19_set 19 = .ok (.putfield 39, 3) := dk_181 0 39 (dk_at dksJ19_set_0 19 rfl rfl)
theorem dJ19_set_22 : decode cJ19_set 22 = .ok (.aload 4, 2) := dk_25 4 (dk_at dksJ19_set_0 22 rfl rfl)
theorem dJ19_set_24 : decode cJ19_set 24 = .ok (.areturn, 1) := dk_176 (dk_at dksJ19_set_1 0 rfl rfl)
theorem q70 : (Jvm.Cond.initialized "java/util/LinkedList") ∈ lw_all := lw_g (lw_at lw_m1 23 rfl) rfl
theorem q481 : (Jvm.Cond.sameField "java/util/LinkedList" "java/util/AbstractList" "modCount" "I") ∈ lw_all := lw_g (lw_at lw_m2 194 rfl) rfl
theorem q485 : (Jvm.Cond.fieldLink "java/util/LinkedList" (33 : Nat) "java/util/LinkedList" "modCount" "I") ∈ lw_all := lw_g (lw_at lw_m2 198 rfl) rfl
theorem q496 : (Jvm.Cond.instantiable "java/util/LinkedList" (4 : Nat)) ∈ lw_all := lw_g (lw_at lw_m2 209 rfl) rfl
theorem q498 : (Jvm.Cond.instanceMethod ({ cls := "java/util/LinkedList", name := "<init>", desc := "()V" } : Jvm.MethodName)) ∈ lw_all := lw_g (lw_at lw_m2 211 rfl) rfl
theorem q499 : (Jvm.Cond.code ({ cls := "java/util/LinkedList", name := "<init>", desc := "()V" } : Jvm.MethodName) prog_72_method_1_code (1 : Nat) (Option.none : Option Jvm.ClassFile.FieldType)) ∈ lw_all := lw_g (lw_at lw_m2 212 rfl) rfl
theorem q500 : (Jvm.Cond.methodLink "java/util/LinkedList" (1 : Nat) ({ cls := "java/util/AbstractSequentialList", name := "<init>", desc := "()V" } : Jvm.MethodName)) ∈ lw_all := lw_g (lw_at lw_m2 213 rfl) rfl
theorem q504 : (Jvm.Cond.fieldLink "java/util/LinkedList" (7 : Nat) "java/util/LinkedList" "size" "I") ∈ lw_all := lw_g (lw_at lw_m2 217 rfl) rfl
theorem q506 : (Jvm.Cond.fieldLink "java/util/LinkedList" (18 : Nat) "java/util/LinkedList" "first" "Ljava/util/LinkedList$Node;") ∈ lw_all := lw_g (lw_at lw_m2 219 rfl) rfl
theorem q507 : (Jvm.Cond.fieldLink "java/util/LinkedList" (27 : Nat) "java/util/LinkedList" "last" "Ljava/util/LinkedList$Node;") ∈ lw_all := lw_g (lw_at lw_m2 220 rfl) rfl
theorem q509 : (Jvm.Cond.lays "java/util/LinkedList" "java/util/LinkedList" "size" "I") ∈ lw_all := lw_g (lw_at lw_m2 222 rfl) rfl
theorem q510 : (Jvm.Cond.soleField "java/util/LinkedList" "size") ∈ lw_all := lw_g (lw_at lw_m2 223 rfl) rfl
theorem q511 : (Jvm.Cond.lays "java/util/LinkedList" "java/util/LinkedList" "first" "Ljava/util/LinkedList$Node;") ∈ lw_all := lw_g (lw_at lw_m2 224 rfl) rfl
theorem q512 : (Jvm.Cond.soleField "java/util/LinkedList" "first") ∈ lw_all := lw_g (lw_at lw_m2 225 rfl) rfl
theorem q513 : (Jvm.Cond.lays "java/util/LinkedList" "java/util/LinkedList" "last" "Ljava/util/LinkedList$Node;") ∈ lw_all := lw_g (lw_at lw_m2 226 rfl) rfl
theorem q514 : (Jvm.Cond.soleField "java/util/LinkedList" "last") ∈ lw_all := lw_g (lw_at lw_m2 227 rfl) rfl
theorem q515 : (Jvm.Cond.lays "java/util/LinkedList" "java/util/AbstractList" "modCount" "I") ∈ lw_all := lw_g (lw_at lw_m2 228 rfl) rfl
theorem q516 : (Jvm.Cond.superclass "java/util/LinkedList" "java/util/AbstractSequentialList") ∈ lw_all := lw_g (lw_at lw_m2 229 rfl) rfl
theorem q627 : (Jvm.Cond.instanceMethod ({ cls := "java/util/LinkedList", name := "size", desc := "()I" } : Jvm.MethodName)) ∈ lw_all := lw_g (lw_at lw_m3 100 rfl) rfl
theorem q628 : (Jvm.Cond.selects "java/util/LinkedList" ({ cls := "java/util/LinkedList", name := "size", desc := "()I" } : Jvm.MethodName) ({ cls := "java/util/LinkedList", name := "size", desc := "()I" } : Jvm.MethodName)) ∈ lw_all := lw_g (lw_at lw_m3 101 rfl) rfl
theorem q629 : (Jvm.Cond.code ({ cls := "java/util/LinkedList", name := "size", desc := "()I" } : Jvm.MethodName) prog_72_method_16_code (1 : Nat) (Option.some Jvm.ClassFile.FieldType.int)) ∈ lw_all := lw_g (lw_at lw_m3 102 rfl) rfl
theorem q681 : (Jvm.Cond.selects "java/util/LinkedList" ({ cls := "java/util/AbstractList", name := "size", desc := "()I" } : Jvm.MethodName) ({ cls := "java/util/LinkedList", name := "size", desc := "()I" } : Jvm.MethodName)) ∈ lw_all := lw_g (lw_at lw_m3 154 rfl) rfl
theorem q744 : (Jvm.Cond.selects "java/util/LinkedList" ({ cls := "java/util/AbstractList", name := "get", desc := "(I)Ljava/lang/Object;" } : Jvm.MethodName) ({ cls := "java/util/LinkedList", name := "get", desc := "(I)Ljava/lang/Object;" } : Jvm.MethodName)) ∈ lw_all := lw_g (lw_at lw_m3 217 rfl) rfl
theorem q745 : (Jvm.Cond.instanceMethod ({ cls := "java/util/LinkedList", name := "get", desc := "(I)Ljava/lang/Object;" } : Jvm.MethodName)) ∈ lw_all := lw_g (lw_at lw_m3 218 rfl) rfl
theorem q746 : (Jvm.Cond.code ({ cls := "java/util/LinkedList", name := "get", desc := "(I)Ljava/lang/Object;" } : Jvm.MethodName) prog_72_method_22_code (2 : Nat) (Option.some (Jvm.ClassFile.FieldType.object "java/lang/Object"))) ∈ lw_all := lw_g (lw_at lw_m3 219 rfl) rfl
theorem q747 : (Jvm.Cond.methodLink "java/util/LinkedList" (90 : Nat) ({ cls := "java/util/LinkedList", name := "checkElementIndex", desc := "(I)V" } : Jvm.MethodName)) ∈ lw_all := lw_g (lw_at lw_m3 220 rfl) rfl
theorem q748 : (Jvm.Cond.privateMethod ({ cls := "java/util/LinkedList", name := "checkElementIndex", desc := "(I)V" } : Jvm.MethodName)) ∈ lw_tbl := lw_at lw_m3 221 rfl
theorem q749 : (Jvm.Cond.instanceMethod ({ cls := "java/util/LinkedList", name := "checkElementIndex", desc := "(I)V" } : Jvm.MethodName)) ∈ lw_all := lw_g (lw_at lw_m3 222 rfl) rfl
theorem q750 : (Jvm.Cond.code ({ cls := "java/util/LinkedList", name := "checkElementIndex", desc := "(I)V" } : Jvm.MethodName) prog_72_method_29_code (2 : Nat) (Option.none : Option Jvm.ClassFile.FieldType)) ∈ lw_all := lw_g (lw_at lw_m3 223 rfl) rfl
theorem q751 : (Jvm.Cond.methodLink "java/util/LinkedList" (115 : Nat) ({ cls := "java/util/LinkedList", name := "isElementIndex", desc := "(I)Z" } : Jvm.MethodName)) ∈ lw_all := lw_g (lw_at lw_m3 224 rfl) rfl
theorem q752 : (Jvm.Cond.privateMethod ({ cls := "java/util/LinkedList", name := "isElementIndex", desc := "(I)Z" } : Jvm.MethodName)) ∈ lw_tbl := lw_at lw_m3 225 rfl
theorem q753 : (Jvm.Cond.instanceMethod ({ cls := "java/util/LinkedList", name := "isElementIndex", desc := "(I)Z" } : Jvm.MethodName)) ∈ lw_all := lw_g (lw_at lw_m3 226 rfl) rfl
theorem q754 : (Jvm.Cond.code ({ cls := "java/util/LinkedList", name := "isElementIndex", desc := "(I)Z" } : Jvm.MethodName) prog_72_method_26_code (2 : Nat) (Option.some Jvm.ClassFile.FieldType.boolean)) ∈ lw_all := lw_g (lw_at lw_m3 227 rfl) rfl
theorem q755 : (Jvm.Cond.classLink "java/util/LinkedList" (119 : Nat) "java/lang/IndexOutOfBoundsException") ∈ lw_all := lw_g (lw_at lw_m3 228 rfl) rfl
theorem q764 : (Jvm.Cond.methodLink "java/util/LinkedList" (121 : Nat) ({ cls := "java/util/LinkedList", name := "outOfBoundsMsg", desc := "(I)Ljava/lang/String;" } : Jvm.MethodName)) ∈ lw_all := lw_g (lw_at lw_m3 237 rfl) rfl
theorem q765 : (Jvm.Cond.privateMethod ({ cls := "java/util/LinkedList", name := "outOfBoundsMsg", desc := "(I)Ljava/lang/String;" } : Jvm.MethodName)) ∈ lw_tbl := lw_at lw_m3 238 rfl
theorem q766 : (Jvm.Cond.instanceMethod ({ cls := "java/util/LinkedList", name := "outOfBoundsMsg", desc := "(I)Ljava/lang/String;" } : Jvm.MethodName)) ∈ lw_all := lw_g (lw_at lw_m3 239 rfl) rfl
theorem q767 : (Jvm.Cond.code ({ cls := "java/util/LinkedList", name := "outOfBoundsMsg", desc := "(I)Ljava/lang/String;" } : Jvm.MethodName) prog_72_method_28_code (2 : Nat) (Option.some (Jvm.ClassFile.FieldType.object "java/lang/String"))) ∈ lw_all := lw_g (lw_at lw_m4 0 rfl) rfl
theorem q768 : (Jvm.Cond.classLink "java/util/LinkedList" (97 : Nat) "java/lang/StringBuilder") ∈ lw_all := lw_g (lw_at lw_m4 1 rfl) rfl
theorem q769 : (Jvm.Cond.methodLink "java/util/LinkedList" (99 : Nat) ({ cls := "java/lang/StringBuilder", name := "<init>", desc := "()V" } : Jvm.MethodName)) ∈ lw_all := lw_g (lw_at lw_m4 2 rfl) rfl
theorem q770 : (Jvm.Cond.stringRef "java/util/LinkedList" (100 : Nat) "Index: ") ∈ lw_tbl := lw_at lw_m4 3 rfl
theorem q771 : (Jvm.Cond.methodLink "java/util/LinkedList" (102 : Nat) ({ cls := "java/lang/StringBuilder", name := "append", desc := "(Ljava/lang/String;)Ljava/lang/StringBuilder;" } : Jvm.MethodName)) ∈ lw_all := lw_g (lw_at lw_m4 4 rfl) rfl
theorem q772 : (Jvm.Cond.methodLink "java/util/LinkedList" (106 : Nat) ({ cls := "java/lang/StringBuilder", name := "append", desc := "(I)Ljava/lang/StringBuilder;" } : Jvm.MethodName)) ∈ lw_all := lw_g (lw_at lw_m4 5 rfl) rfl
theorem q773 : (Jvm.Cond.stringRef "java/util/LinkedList" (109 : Nat) ", Size: ") ∈ lw_tbl := lw_at lw_m4 6 rfl
theorem q774 : (Jvm.Cond.methodLink "java/util/LinkedList" (111 : Nat) ({ cls := "java/lang/StringBuilder", name := "toString", desc := "()Ljava/lang/String;" } : Jvm.MethodName)) ∈ lw_all := lw_g (lw_at lw_m4 7 rfl) rfl
theorem q775 : (Jvm.Cond.methodLink "java/util/LinkedList" (125 : Nat) ({ cls := "java/lang/IndexOutOfBoundsException", name := "<init>", desc := "(Ljava/lang/String;)V" } : Jvm.MethodName)) ∈ lw_all := lw_g (lw_at lw_m4 8 rfl) rfl
theorem q781 : (Jvm.Cond.methodLink "java/util/LinkedList" (86 : Nat) ({ cls := "java/util/LinkedList", name := "node", desc := "(I)Ljava/util/LinkedList$Node;" } : Jvm.MethodName)) ∈ lw_all := lw_g (lw_at lw_m4 14 rfl) rfl
theorem q782 : (Jvm.Cond.instanceMethod ({ cls := "java/util/LinkedList", name := "node", desc := "(I)Ljava/util/LinkedList$Node;" } : Jvm.MethodName)) ∈ lw_all := lw_g (lw_at lw_m4 15 rfl) rfl
theorem q783 : (Jvm.Cond.selects "java/util/LinkedList" ({ cls := "java/util/LinkedList", name := "node", desc := "(I)Ljava/util/LinkedList$Node;" } : Jvm.MethodName) ({ cls := "java/util/LinkedList", name := "node", desc := "(I)Ljava/util/LinkedList$Node;" } : Jvm.MethodName)) ∈ lw_all := lw_g (lw_at lw_m4 16 rfl) rfl
theorem q784 : (Jvm.Cond.code ({ cls := "java/util/LinkedList", name := "node", desc := "(I)Ljava/util/LinkedList$Node;" } : Jvm.MethodName) prog_72_method_31_code (4 : Nat) (Option.some (Jvm.ClassFile.FieldType.object "java/util/LinkedList$Node"))) ∈ lw_all := lw_g (lw_at lw_m4 17 rfl) rfl
theorem q855 : (Jvm.Cond.selects "java/util/LinkedList" ({ cls := "java/lang/Object", name := "getClass", desc := "()Ljava/lang/Class;" } : Jvm.MethodName) ({ cls := "java/lang/Object", name := "getClass", desc := "()Ljava/lang/Class;" } : Jvm.MethodName)) ∈ lw_all := lw_g (lw_at lw_m4 88 rfl) rfl
theorem q947 : (Jvm.Cond.castable "java/util/LinkedList" "java/util/List") ∈ lw_tbl := lw_at lw_m4 180 rfl
theorem q948 : (Jvm.Cond.selects "java/util/LinkedList" ({ cls := "java/util/List", name := "get", desc := "(I)Ljava/lang/Object;" } : Jvm.MethodName) ({ cls := "java/util/LinkedList", name := "get", desc := "(I)Ljava/lang/Object;" } : Jvm.MethodName)) ∈ lw_all := lw_g (lw_at lw_m4 181 rfl) rfl
theorem q949 : (Jvm.Cond.unhidden "java/util/LinkedList" "get" "(I)Ljava/lang/Object;") ∈ lw_tbl := lw_at lw_m4 182 rfl
theorem q950 : (Jvm.Cond.publicMethod ({ cls := "java/util/LinkedList", name := "get", desc := "(I)Ljava/lang/Object;" } : Jvm.MethodName)) ∈ lw_tbl := lw_at lw_m4 183 rfl
theorem q1369 : (Jvm.Cond.sameMethod "java/util/LinkedList" "java/util/AbstractSequentialList" "iterator" "()Ljava/util/Iterator;") ∈ lw_all := lw_g (lw_at lw_m6 122 rfl) rfl
theorem q1371 : (Jvm.Cond.selects "java/util/LinkedList" ({ cls := "java/util/LinkedList", name := "iterator", desc := "()Ljava/util/Iterator;" } : Jvm.MethodName) ({ cls := "java/util/AbstractSequentialList", name := "iterator", desc := "()Ljava/util/Iterator;" } : Jvm.MethodName)) ∈ lw_all := lw_g (lw_at lw_m6 124 rfl) rfl
theorem q1377 : (Jvm.Cond.selects "java/util/LinkedList" ({ cls := "java/util/AbstractSequentialList", name := "listIterator", desc := "()Ljava/util/ListIterator;" } : Jvm.MethodName) ({ cls := "java/util/AbstractList", name := "listIterator", desc := "()Ljava/util/ListIterator;" } : Jvm.MethodName)) ∈ lw_all := lw_g (lw_at lw_m6 130 rfl) rfl
theorem q1413 : (Jvm.Cond.selects "java/util/LinkedList" ({ cls := "java/util/AbstractList", name := "listIterator", desc := "(I)Ljava/util/ListIterator;" } : Jvm.MethodName) ({ cls := "java/util/LinkedList", name := "listIterator", desc := "(I)Ljava/util/ListIterator;" } : Jvm.MethodName)) ∈ lw_all := lw_g (lw_at lw_m6 166 rfl) rfl
theorem q1414 : (Jvm.Cond.instanceMethod ({ cls := "java/util/LinkedList", name := "listIterator", desc := "(I)Ljava/util/ListIterator;" } : Jvm.MethodName)) ∈ lw_all := lw_g (lw_at lw_m6 167 rfl) rfl
theorem q1415 : (Jvm.Cond.code ({ cls := "java/util/LinkedList", name := "listIterator", desc := "(I)Ljava/util/ListIterator;" } : Jvm.MethodName) prog_72_method_49_code (2 : Nat) (Option.some (Jvm.ClassFile.FieldType.object "java/util/ListIterator"))) ∈ lw_all := lw_g (lw_at lw_m6 168 rfl) rfl
theorem q1416 : (Jvm.Cond.methodLink "java/util/LinkedList" (76 : Nat) ({ cls := "java/util/LinkedList", name := "checkPositionIndex", desc := "(I)V" } : Jvm.MethodName)) ∈ lw_all := lw_g (lw_at lw_m6 169 rfl) rfl
theorem q1417 : (Jvm.Cond.privateMethod ({ cls := "java/util/LinkedList", name := "checkPositionIndex", desc := "(I)V" } : Jvm.MethodName)) ∈ lw_tbl := lw_at lw_m6 170 rfl
theorem q1418 : (Jvm.Cond.instanceMethod ({ cls := "java/util/LinkedList", name := "checkPositionIndex", desc := "(I)V" } : Jvm.MethodName)) ∈ lw_all := lw_g (lw_at lw_m6 171 rfl) rfl
theorem q1419 : (Jvm.Cond.code ({ cls := "java/util/LinkedList", name := "checkPositionIndex", desc := "(I)V" } : Jvm.MethodName) prog_72_method_30_code (2 : Nat) (Option.none : Option Jvm.ClassFile.FieldType)) ∈ lw_all := lw_g (lw_at lw_m6 172 rfl) rfl
theorem q1420 : (Jvm.Cond.methodLink "java/util/LinkedList" (128 : Nat) ({ cls := "java/util/LinkedList", name := "isPositionIndex", desc := "(I)Z" } : Jvm.MethodName)) ∈ lw_all := lw_g (lw_at lw_m6 173 rfl) rfl
theorem q1421 : (Jvm.Cond.privateMethod ({ cls := "java/util/LinkedList", name := "isPositionIndex", desc := "(I)Z" } : Jvm.MethodName)) ∈ lw_tbl := lw_at lw_m6 174 rfl
theorem q1422 : (Jvm.Cond.instanceMethod ({ cls := "java/util/LinkedList", name := "isPositionIndex", desc := "(I)Z" } : Jvm.MethodName)) ∈ lw_all := lw_g (lw_at lw_m6 175 rfl) rfl
theorem q1423 : (Jvm.Cond.code ({ cls := "java/util/LinkedList", name := "isPositionIndex", desc := "(I)Z" } : Jvm.MethodName) prog_72_method_27_code (2 : Nat) (Option.some Jvm.ClassFile.FieldType.boolean)) ∈ lw_all := lw_g (lw_at lw_m6 176 rfl) rfl
theorem q1424 : (Jvm.Cond.classLink "java/util/LinkedList" (150 : Nat) "java/util/LinkedList$ListItr") ∈ lw_all := lw_g (lw_at lw_m6 177 rfl) rfl
theorem q1426 : (Jvm.Cond.methodLink "java/util/LinkedList" (152 : Nat) ({ cls := "java/util/LinkedList$ListItr", name := "<init>", desc := "(Ljava/util/LinkedList;I)V" } : Jvm.MethodName)) ∈ lw_all := lw_g (lw_at lw_m6 179 rfl) rfl
theorem q1481 : (Jvm.Cond.selects "java/util/LinkedList" ({ cls := "java/util/AbstractList", name := "remove", desc := "(I)Ljava/lang/Object;" } : Jvm.MethodName) ({ cls := "java/util/LinkedList", name := "remove", desc := "(I)Ljava/lang/Object;" } : Jvm.MethodName)) ∈ lw_all := lw_g (lw_at lw_m6 234 rfl) rfl
theorem q1482 : (Jvm.Cond.instanceMethod ({ cls := "java/util/LinkedList", name := "remove", desc := "(I)Ljava/lang/Object;" } : Jvm.MethodName)) ∈ lw_all := lw_g (lw_at lw_m6 235 rfl) rfl
theorem q1483 : (Jvm.Cond.code ({ cls := "java/util/LinkedList", name := "remove", desc := "(I)Ljava/lang/Object;" } : Jvm.MethodName) prog_72_method_25_code (2 : Nat) (Option.some (Jvm.ClassFile.FieldType.object "java/lang/Object"))) ∈ lw_all := lw_g (lw_at lw_m6 236 rfl) rfl
theorem q1484 : (Jvm.Cond.methodLink "java/util/LinkedList" (64 : Nat) ({ cls := "java/util/LinkedList", name := "unlink", desc := "(Ljava/util/LinkedList$Node;)Ljava/lang/Object;" } : Jvm.MethodName)) ∈ lw_all := lw_g (lw_at lw_m6 237 rfl) rfl
theorem q1485 : (Jvm.Cond.instanceMethod ({ cls := "java/util/LinkedList", name := "unlink", desc := "(Ljava/util/LinkedList$Node;)Ljava/lang/Object;" } : Jvm.MethodName)) ∈ lw_all := lw_g (lw_at lw_m6 238 rfl) rfl
theorem q1486 : (Jvm.Cond.selects "java/util/LinkedList" ({ cls := "java/util/LinkedList", name := "unlink", desc := "(Ljava/util/LinkedList$Node;)Ljava/lang/Object;" } : Jvm.MethodName) ({ cls := "java/util/LinkedList", name := "unlink", desc := "(Ljava/util/LinkedList$Node;)Ljava/lang/Object;" } : Jvm.MethodName)) ∈ lw_all := lw_g (lw_at lw_m6 239 rfl) rfl
theorem q1487 : (Jvm.Cond.code ({ cls := "java/util/LinkedList", name := "unlink", desc := "(Ljava/util/LinkedList$Node;)Ljava/lang/Object;" } : Jvm.MethodName) prog_72_method_8_code (5 : Nat) (Option.some (Jvm.ClassFile.FieldType.object "java/lang/Object"))) ∈ lw_all := lw_g (lw_at lw_m7 0 rfl) rfl
theorem q1634 : (Jvm.Cond.instanceMethod ({ cls := "java/util/LinkedList", name := "addLast", desc := "(Ljava/lang/Object;)V" } : Jvm.MethodName)) ∈ lw_all := lw_g (lw_at lw_m7 147 rfl) rfl
theorem q1635 : (Jvm.Cond.selects "java/util/LinkedList" ({ cls := "java/util/LinkedList", name := "addLast", desc := "(Ljava/lang/Object;)V" } : Jvm.MethodName) ({ cls := "java/util/LinkedList", name := "addLast", desc := "(Ljava/lang/Object;)V" } : Jvm.MethodName)) ∈ lw_all := lw_g (lw_at lw_m7 148 rfl) rfl
theorem q1636 : (Jvm.Cond.code ({ cls := "java/util/LinkedList", name := "addLast", desc := "(Ljava/lang/Object;)V" } : Jvm.MethodName) prog_72_method_14_code (2 : Nat) (Option.none : Option Jvm.ClassFile.FieldType)) ∈ lw_all := lw_g (lw_at lw_m7 149 rfl) rfl
theorem q1637 : (Jvm.Cond.methodLink "java/util/LinkedList" (57 : Nat) ({ cls := "java/util/LinkedList", name := "linkLast", desc := "(Ljava/lang/Object;)V" } : Jvm.MethodName)) ∈ lw_all := lw_g (lw_at lw_m7 150 rfl) rfl
theorem q1638 : (Jvm.Cond.instanceMethod ({ cls := "java/util/LinkedList", name := "linkLast", desc := "(Ljava/lang/Object;)V" } : Jvm.MethodName)) ∈ lw_all := lw_g (lw_at lw_m7 151 rfl) rfl
theorem q1639 : (Jvm.Cond.selects "java/util/LinkedList" ({ cls := "java/util/LinkedList", name := "linkLast", desc := "(Ljava/lang/Object;)V" } : Jvm.MethodName) ({ cls := "java/util/LinkedList", name := "linkLast", desc := "(Ljava/lang/Object;)V" } : Jvm.MethodName)) ∈ lw_all := lw_g (lw_at lw_m7 152 rfl) rfl
theorem q1640 : (Jvm.Cond.code ({ cls := "java/util/LinkedList", name := "linkLast", desc := "(Ljava/lang/Object;)V" } : Jvm.MethodName) prog_72_method_4_code (4 : Nat) (Option.none : Option Jvm.ClassFile.FieldType)) ∈ lw_all := lw_g (lw_at lw_m7 153 rfl) rfl
theorem q1641 : (Jvm.Cond.classLink "java/util/LinkedList" (22 : Nat) "java/util/LinkedList$Node") ∈ lw_all := lw_g (lw_at lw_m7 154 rfl) rfl
theorem q1643 : (Jvm.Cond.methodLink "java/util/LinkedList" (24 : Nat) ({ cls := "java/util/LinkedList$Node", name := "<init>", desc := "(Ljava/util/LinkedList$Node;Ljava/lang/Object;Ljava/util/LinkedList$Node;)V" } : Jvm.MethodName)) ∈ lw_all := lw_g (lw_at lw_m7 156 rfl) rfl
theorem q1649 : (Jvm.Cond.fieldLink "java/util/LinkedList" (39 : Nat) "java/util/LinkedList$Node" "item" "Ljava/lang/Object;") ∈ lw_all := lw_g (lw_at lw_m7 162 rfl) rfl
theorem q1652 : (Jvm.Cond.fieldLink "java/util/LinkedList" (36 : Nat) "java/util/LinkedList$Node" "next" "Ljava/util/LinkedList$Node;") ∈ lw_all := lw_g (lw_at lw_m7 165 rfl) rfl
theorem q1655 : (Jvm.Cond.fieldLink "java/util/LinkedList" (30 : Nat) "java/util/LinkedList$Node" "prev" "Ljava/util/LinkedList$Node;") ∈ lw_all := lw_g (lw_at lw_m7 168 rfl) rfl
theorem q1787 : (Jvm.Cond.selects "java/util/LinkedList" ({ cls := "java/util/List", name := "size", desc := "()I" } : Jvm.MethodName) ({ cls := "java/util/LinkedList", name := "size", desc := "()I" } : Jvm.MethodName)) ∈ lw_all := lw_g (lw_at lw_m8 60 rfl) rfl
theorem q1788 : (Jvm.Cond.unhidden "java/util/LinkedList" "size" "()I") ∈ lw_tbl := lw_at lw_m8 61 rfl
theorem q1789 : (Jvm.Cond.publicMethod ({ cls := "java/util/LinkedList", name := "size", desc := "()I" } : Jvm.MethodName)) ∈ lw_tbl := lw_at lw_m8 62 rfl
theorem q1811 : (Jvm.Cond.selects "java/util/LinkedList" ({ cls := "java/util/List", name := "set", desc := "(ILjava/lang/Object;)Ljava/lang/Object;" } : Jvm.MethodName) ({ cls := "java/util/LinkedList", name := "set", desc := "(ILjava/lang/Object;)Ljava/lang/Object;" } : Jvm.MethodName)) ∈ lw_all := lw_g (lw_at lw_m8 84 rfl) rfl
theorem q1812 : (Jvm.Cond.unhidden "java/util/LinkedList" "set" "(ILjava/lang/Object;)Ljava/lang/Object;") ∈ lw_tbl := lw_at lw_m8 85 rfl
theorem q1813 : (Jvm.Cond.instanceMethod ({ cls := "java/util/LinkedList", name := "set", desc := "(ILjava/lang/Object;)Ljava/lang/Object;" } : Jvm.MethodName)) ∈ lw_all := lw_g (lw_at lw_m8 86 rfl) rfl
theorem q1814 : (Jvm.Cond.publicMethod ({ cls := "java/util/LinkedList", name := "set", desc := "(ILjava/lang/Object;)Ljava/lang/Object;" } : Jvm.MethodName)) ∈ lw_tbl := lw_at lw_m8 87 rfl
theorem q1815 : (Jvm.Cond.code ({ cls := "java/util/LinkedList", name := "set", desc := "(ILjava/lang/Object;)Ljava/lang/Object;" } : Jvm.MethodName) prog_72_method_23_code (5 : Nat) (Option.some (Jvm.ClassFile.FieldType.object "java/lang/Object"))) ∈ lw_all := lw_g (lw_at lw_m8 88 rfl) rfl
theorem q1871 : (Jvm.Cond.selects "java/util/LinkedList" ({ cls := "java/util/List", name := "listIterator", desc := "()Ljava/util/ListIterator;" } : Jvm.MethodName) ({ cls := "java/util/AbstractList", name := "listIterator", desc := "()Ljava/util/ListIterator;" } : Jvm.MethodName)) ∈ lw_all := lw_g (lw_at lw_m8 144 rfl) rfl
theorem q1872 : (Jvm.Cond.unhidden "java/util/LinkedList" "listIterator" "()Ljava/util/ListIterator;") ∈ lw_tbl := lw_at lw_m8 145 rfl
theorem q1884 : (Jvm.Cond.selects "java/util/LinkedList" ({ cls := "java/util/List", name := "listIterator", desc := "(I)Ljava/util/ListIterator;" } : Jvm.MethodName) ({ cls := "java/util/LinkedList", name := "listIterator", desc := "(I)Ljava/util/ListIterator;" } : Jvm.MethodName)) ∈ lw_all := lw_g (lw_at lw_m8 157 rfl) rfl
theorem q1885 : (Jvm.Cond.unhidden "java/util/LinkedList" "listIterator" "(I)Ljava/util/ListIterator;") ∈ lw_tbl := lw_at lw_m8 158 rfl
theorem q1886 : (Jvm.Cond.publicMethod ({ cls := "java/util/LinkedList", name := "listIterator", desc := "(I)Ljava/util/ListIterator;" } : Jvm.MethodName)) ∈ lw_tbl := lw_at lw_m8 159 rfl
theorem q1955 : (Jvm.Cond.selects "java/util/LinkedList" ({ cls := "java/util/AbstractList", name := "set", desc := "(ILjava/lang/Object;)Ljava/lang/Object;" } : Jvm.MethodName) ({ cls := "java/util/LinkedList", name := "set", desc := "(ILjava/lang/Object;)Ljava/lang/Object;" } : Jvm.MethodName)) ∈ lw_all := lw_g (lw_at lw_m8 228 rfl) rfl
theorem q2001 : (Jvm.Cond.selects "java/util/LinkedList" ({ cls := "java/util/List", name := "iterator", desc := "()Ljava/util/Iterator;" } : Jvm.MethodName) ({ cls := "java/util/AbstractSequentialList", name := "iterator", desc := "()Ljava/util/Iterator;" } : Jvm.MethodName)) ∈ lw_all := lw_g (lw_at lw_m9 34 rfl) rfl
theorem q2002 : (Jvm.Cond.unhidden "java/util/LinkedList" "iterator" "()Ljava/util/Iterator;") ∈ lw_tbl := lw_at lw_m9 35 rfl
theorem q2564 : (Jvm.Cond.castable "java/util/LinkedList" "java/lang/Object") ∈ lw_tbl := lw_at lw_m11 117 rfl
theorem in_J19 : ∀ w ∈ wsJ190, w ∈ lw_all := lw_in wsJ190 [515, 509, 511, 513] (by decide +kernel) (by decide +kernel)

/-! java/util/ArrayDeque -/
set_option maxRecDepth 100000
def RJ20 : String := "java/util/ArrayDeque"
def TJ20 : u_T := fun k => match k with
  | 0 => ("java/util/ArrayDeque", "elements", "[Ljava/lang/Object;", false)
  | 1 => ("java/util/ArrayDeque", "head", "I", false)
  | _ => ("java/util/ArrayDeque", "tail", "I", false)
def tyJ20 : Nat → FieldType := fun k => match k with
  | 0 => .array (.object "java/lang/Object")
  | 1 => .int
  | _ => .int
abbrev wsJ200 : List Cond := u_ws RJ20 TJ20 3
theorem nmJ20 : ∀ a, a < 3 → ∀ b, b < 3 → a ≠ b → (TJ20 a).2.1 ≠ (TJ20 b).2.1 := by decide +kernel
theorem tyJ20_ok : ∀ k, k < 3 → parseFieldDescriptor (TJ20 k).2.2.1 = some (tyJ20 k) := by decide +kernel
abbrev cJ20_init : ByteArray := prog_54_method_3_code
def yJ20_init : MethodName := ⟨RJ20, "<init>", "()V"⟩
def dkwJ20_init_0 : List UInt8 := [42, 183, 0, 42, 42, 16, 17, 189, 0, 47, 181, 0, 3, 177]
abbrev dktJ20_init_0 : List UInt8 := dkwJ20_init_0 ++ []
theorem dksJ20_init_0 : cJ20_init.data.toList.drop 0 = dktJ20_init_0 := by decide +kernel
theorem dJ20_init_0 : decode cJ20_init 0 = .ok (.aload_n 0, 1) := dk_42 (dk_at dksJ20_init_0 0 rfl rfl)
theorem dJ20_init_1 : decode cJ20_init 1 = .ok (.invokespecial 42, 3) := dk_183 0 42 (dk_at dksJ20_init_0 1 rfl rfl)
theorem dJ20_init_4 : decode cJ20_init 4 = .ok (.aload_n 0, 1) := dk_42 (dk_at dksJ20_init_0 4 rfl rfl)
theorem dJ20_init_5 : decode cJ20_init 5 = .ok (.bipush 17, 2) := dk_16 17 (dk_at dksJ20_init_0 5 rfl rfl)
theorem dJ20_init_7 : decode cJ20_init 7 = .ok (.anewarray 47, 3) := dk_189 0 47 (dk_at dksJ20_init_0 7 rfl rfl)
theorem dJ20_init_10 : decode cJ20_init 10 = .ok (.putfield 3, 3) := dk_181 0 3 (dk_at dksJ20_init_0 10 rfl rfl)
theorem dJ20_init_13 : decode cJ20_init 13 = .ok (.return_, 1) := dk_177 (dk_at dksJ20_init_0 13 rfl rfl)
abbrev cJ20_nonNullElementAt : ByteArray := prog_54_method_11_code
def yJ20_nonNullElementAt : MethodName := ⟨RJ20, "nonNullElementAt", "([Ljava/lang/Object;I)Ljava/lang/Object;"⟩
def dkwJ20_nonNullElementAt_0 : List UInt8 := [42, 27, 50, 77, 44, 199, 0, 11, 187, 0, 62, 89, 183, 0, 64, 191, 44, 176]
abbrev dktJ20_nonNullElementAt_0 : List UInt8 := dkwJ20_nonNullElementAt_0 ++ []
theorem dksJ20_nonNullElementAt_0 : cJ20_nonNullElementAt.data.toList.drop 0 = dktJ20_nonNullElementAt_0 := by decide +kernel
theorem dJ20_nonNullElementAt_0 : decode cJ20_nonNullElementAt 0 = .ok (.aload_n 0, 1) := dk_42 (dk_at dksJ20_nonNullElementAt_0 0 rfl rfl)
theorem dJ20_nonNullElementAt_1 : decode cJ20_nonNullElementAt 1 = .ok (.iload_n 1, 1) := dk_27 (dk_at dksJ20_nonNullElementAt_0 1 rfl rfl)
theorem dJ20_nonNullElementAt_2 : decode cJ20_nonNullElementAt 2 = .ok (.aaload, 1) := dk_50 (dk_at dksJ20_nonNullElementAt_0 2 rfl rfl)
theorem dJ20_nonNullElementAt_3 : decode cJ20_nonNullElementAt 3 = .ok (.astore_n 2, 1) := dk_77 (dk_at dksJ20_nonNullElementAt_0 3 rfl rfl)
theorem dJ20_nonNullElementAt_4 : decode cJ20_nonNullElementAt 4 = .ok (.aload_n 2, 1) := dk_44 (dk_at dksJ20_nonNullElementAt_0 4 rfl rfl)
theorem dJ20_nonNullElementAt_5 : decode cJ20_nonNullElementAt 5 = .ok (.ifnonnull 11, 3) := dk_199 0 11 (dk_at dksJ20_nonNullElementAt_0 5 rfl rfl)
theorem dJ20_nonNullElementAt_8 : decode cJ20_nonNullElementAt 8 = .ok (.new 62, 3) := dk_187 0 62 (dk_at dksJ20_nonNullElementAt_0 8 rfl rfl)
theorem dJ20_nonNullElementAt_11 : decode cJ20_nonNullElementAt 11 = .ok (.dup, 1) := dk_89 (dk_at dksJ20_nonNullElementAt_0 11 rfl rfl)
theorem dJ20_nonNullElementAt_12 : decode cJ20_nonNullElementAt 12 = .ok (.invokespecial 64, 3) := dk_183 0 64 (dk_at dksJ20_nonNullElementAt_0 12 rfl rfl)
theorem dJ20_nonNullElementAt_15 : decode cJ20_nonNullElementAt 15 = .ok (.athrow, 1) := dk_191 (dk_at dksJ20_nonNullElementAt_0 15 rfl rfl)
theorem dJ20_nonNullElementAt_16 : decode cJ20_nonNullElementAt 16 = .ok (.aload_n 2, 1) := dk_44 (dk_at dksJ20_nonNullElementAt_0 16 rfl rfl)
theorem dJ20_nonNullElementAt_17 : decode cJ20_nonNullElementAt 17 = .ok (.areturn, 1) := dk_176 (dk_at dksJ20_nonNullElementAt_0 17 rfl rfl)
abbrev cJ20_inc : ByteArray := prog_54_method_6_code
def yJ20_inc : MethodName := ⟨RJ20, "inc", "(II)I"⟩
def dkwJ20_inc_0 : List UInt8 := [132, 0, 1, 26, 27, 161, 0, 5, 3, 59, 26, 172]
abbrev dktJ20_inc_0 : List UInt8 := dkwJ20_inc_0 ++ []
theorem dksJ20_inc_0 : cJ20_inc.data.toList.drop 0 = dktJ20_inc_0 := by decide +kernel
theorem dJ20_inc_0 : decode cJ20_inc 0 = .ok (.iinc 0 1, 3) := dk_132 0 1 (dk_at dksJ20_inc_0 0 rfl rfl)
theorem dJ20_inc_3 : decode cJ20_inc 3 = .ok (.iload_n 0, 1) := dk_26 (dk_at dksJ20_inc_0 3 rfl rfl)
theorem dJ20_inc_4 : decode cJ20_inc 4 = .ok (.iload_n 1, 1) := dk_27 (dk_at dksJ20_inc_0 4 rfl rfl)
theorem dJ20_inc_5 : decode cJ20_inc 5 = .ok (.if_icmp .lt 5, 3) := dk_161 0 5 (dk_at dksJ20_inc_0 5 rfl rfl)
theorem dJ20_inc_8 : decode cJ20_inc 8 = .ok (.iconst 0, 1) := dk_3 (dk_at dksJ20_inc_0 8 rfl rfl)
theorem dJ20_inc_9 : decode cJ20_inc 9 = .ok (.istore_n 0, 1) := dk_59 (dk_at dksJ20_inc_0 9 rfl rfl)
theorem dJ20_inc_10 : decode cJ20_inc 10 = .ok (.iload_n 0, 1) := dk_26 (dk_at dksJ20_inc_0 10 rfl rfl)
theorem dJ20_inc_11 : decode cJ20_inc 11 = .ok (.ireturn, 1) := dk_172 (dk_at dksJ20_inc_0 11 rfl rfl)
abbrev cJ20_addFirst : ByteArray := prog_54_method_12_code
def yJ20_addFirst : MethodName := ⟨RJ20, "addFirst", "(Ljava/lang/Object;)V"⟩
def dkwJ20_addFirst_2 : List UInt8 := [182, 0, 71, 177]
abbrev dktJ20_addFirst_2 : List UInt8 := dkwJ20_addFirst_2 ++ []
def dkwJ20_addFirst_1 : List UInt8 := [190, 184, 0, 68, 90, 181, 0, 24, 43, 83, 42, 180, 0, 24, 42, 180, 0, 20, 160, 0, 8, 42, 4]
abbrev dktJ20_addFirst_1 : List UInt8 := dkwJ20_addFirst_1 ++ dktJ20_addFirst_2
def dkwJ20_addFirst_0 : List UInt8 := [43, 199, 0, 11, 187, 0, 65, 89, 183, 0, 67, 191, 42, 180, 0, 3, 77, 44, 42, 42, 180, 0, 24, 44]
abbrev dktJ20_addFirst_0 : List UInt8 := dkwJ20_addFirst_0 ++ dktJ20_addFirst_1
theorem dksJ20_addFirst_0 : cJ20_addFirst.data.toList.drop 0 = dktJ20_addFirst_0 := by decide +kernel
theorem dksJ20_addFirst_1 : cJ20_addFirst.data.toList.drop 24 = dktJ20_addFirst_1 := dk_seg dksJ20_addFirst_0 24 rfl rfl
theorem dksJ20_addFirst_2 : cJ20_addFirst.data.toList.drop 47 = dktJ20_addFirst_2 := dk_seg dksJ20_addFirst_1 23 rfl rfl
theorem dJ20_addFirst_0 : decode cJ20_addFirst 0 = .ok (.aload_n 1, 1) := dk_43 (dk_at dksJ20_addFirst_0 0 rfl rfl)
theorem dJ20_addFirst_1 : decode cJ20_addFirst 1 = .ok (.ifnonnull 11, 3) := dk_199 0 11 (dk_at dksJ20_addFirst_0 1 rfl rfl)
theorem dJ20_addFirst_4 : decode cJ20_addFirst 4 = .ok (.new 65, 3) := dk_187 0 65 (dk_at dksJ20_addFirst_0 4 rfl rfl)
theorem dJ20_addFirst_7 : decode cJ20_addFirst 7 = .ok (.dup, 1) := dk_89 (dk_at dksJ20_addFirst_0 7 rfl rfl)
theorem dJ20_addFirst_8 : decode cJ20_addFirst 8 = .ok (.invokespecial 67, 3) := dk_183 0 67 (dk_at dksJ20_addFirst_0 8 rfl rfl)
theorem dJ20_addFirst_11 : decode cJ20_addFirst 11 = .ok (.athrow, 1) := dk_191 (dk_at dksJ20_addFirst_0 11 rfl rfl)
theorem dJ20_addFirst_12 : decode cJ20_addFirst 12 = .ok (.aload_n 0, 1) := dk_42 (dk_at dksJ20_addFirst_0 12 rfl rfl)
theorem dJ20_addFirst_13 : decode cJ20_addFirst 13 = .ok (.getfield 3, 3) := dk_180 0 3 (dk_at dksJ20_addFirst_0 13 rfl rfl)
theorem dJ20_addFirst_16 : decode cJ20_addFirst 16 = .ok (.astore_n 2, 1) := dk_77 (dk_at dksJ20_addFirst_0 16 rfl rfl)
theorem dJ20_addFirst_17 : decode cJ20_addFirst 17 = .ok (.aload_n 2, 1) := dk_44 (dk_at dksJ20_addFirst_0 17 rfl rfl)
theorem dJ20_addFirst_18 : decode cJ20_addFirst 18 = .ok (.aload_n 0, 1) := dk_42 (dk_at dksJ20_addFirst_0 18 rfl rfl)
theorem dJ20_addFirst_19 : decode cJ20_addFirst 19 = .ok (.aload_n 0, 1) := dk_42 (dk_at dksJ20_addFirst_0 19 rfl rfl)
theorem dJ20_addFirst_20 : decode cJ20_addFirst 20 = .ok (.getfield 24, 3) := dk_180 0 24 (dk_at dksJ20_addFirst_0 20 rfl rfl)
theorem dJ20_addFirst_23 : decode cJ20_addFirst 23 = .ok (.aload_n 2, 1) := dk_44 (dk_at dksJ20_addFirst_0 23 rfl rfl)
theorem dJ20_addFirst_24 : decode cJ20_addFirst 24 = .ok (.arraylength, 1) := dk_190 (dk_at dksJ20_addFirst_1 0 rfl rfl)
theorem dJ20_addFirst_25 : decode cJ20_addFirst 25 = .ok (.invokestatic 68, 3) := dk_184 0 68 (dk_at dksJ20_addFirst_1 1 rfl rfl)
theorem dJ20_addFirst_28 : decode cJ20_addFirst 28 = .ok (.dup_x1, 1) := dk_90 (dk_at dksJ20_addFirst_1 4 rfl rfl)
theorem dJ20_addFirst_29 : decode cJ20_addFirst 29 = .ok (.putfield 24, 3) := dk_181 0 24 (dk_at dksJ20_addFirst_1 5 rfl rfl)
theorem dJ20_addFirst_32 : decode cJ20_addFirst 32 = .ok (.aload_n 1, 1) := dk_43 (dk_at dksJ20_addFirst_1 8 rfl rfl)
theorem dJ20_addFirst_33 : decode cJ20_addFirst 33 = .ok (.aastore, 1) := dk_83 (dk_at dksJ20_addFirst_1 9 rfl rfl)
theorem dJ20_addFirst_34 : decode cJ20_addFirst 34 = .ok (.aload_n 0, 1) := dk_42 (dk_at dksJ20_addFirst_1 10 rfl rfl)
theorem dJ20_addFirst_35 : decode cJ20_addFirst 35 = .ok (.getfield 24, 3) := dk_180 0 24 (dk_at dksJ20_addFirst_1 11 rfl rfl)
theorem dJ20_addFirst_38 : decode cJ20_addFirst 38 = .ok (.aload_n 0, 1) := dk_42 (dk_at dksJ20_addFirst_1 14 rfl rfl)
theorem dJ20_addFirst_39 : decode cJ20_addFirst 39 = .ok (.getfield 20, 3) := dk_180 0 20 (dk_at dksJ20_addFirst_1 15 rfl rfl)
theorem dJ20_addFirst_42 : decode cJ20_addFirst 42 = .ok (.if_icmp .ne 8, 3) := dk_160 0 8 (dk_at dksJ20_addFirst_1 18 rfl rfl)
theorem dJ20_addFirst_45 : decode cJ20_addFirst 45 = .ok (.aload_n 0, 1) := dk_42 (dk_at dksJ20_addFirst_1 21 rfl rfl)
theorem dJ20_addFirst_46 : decode cJ20_addFirst 46 = .ok (.iconst 1, 1) := dk_4 (dk_at dksJ20_addFirst_1 22 rfl rfl)
theorem dJ20_addFirst_47 : decode cJ20_addFirst 47 = .ok (.invokevirtual 71, 3) := dk_182 0 71 (dk_at dksJ20_addFirst_2 0 rfl rfl)
theorem dJ20_addFirst_50 : decode cJ20_addFirst 50 = .ok (.return_, 1) := dk_177 (dk_at dksJ20_addFirst_2 3 rfl rfl)
abbrev cJ20_dec : ByteArray := prog_54_method_7_code
def yJ20_dec : MethodName := ⟨RJ20, "dec", "(II)I"⟩
def dkwJ20_dec_0 : List UInt8 := [132, 0, 255, 26, 156, 0, 7, 27, 4, 100, 59, 26, 172]
abbrev dktJ20_dec_0 : List UInt8 := dkwJ20_dec_0 ++ []
theorem dksJ20_dec_0 : cJ20_dec.data.toList.drop 0 = dktJ20_dec_0 := by decide +kernel
theorem dJ20_dec_0 : decode cJ20_dec 0 = .ok (.iinc 0 (-1), 3) := dk_132 0 255 (dk_at dksJ20_dec_0 0 rfl rfl)
theorem dJ20_dec_3 : decode cJ20_dec 3 = .ok (.iload_n 0, 1) := dk_26 (dk_at dksJ20_dec_0 3 rfl rfl)
theorem dJ20_dec_4 : decode cJ20_dec 4 = .ok (.ifCond .ge 7, 3) := dk_156 0 7 (dk_at dksJ20_dec_0 4 rfl rfl)
theorem dJ20_dec_7 : decode cJ20_dec 7 = .ok (.iload_n 1, 1) := dk_27 (dk_at dksJ20_dec_0 7 rfl rfl)
theorem dJ20_dec_8 : decode cJ20_dec 8 = .ok (.iconst 1, 1) := dk_4 (dk_at dksJ20_dec_0 8 rfl rfl)
theorem dJ20_dec_9 : decode cJ20_dec 9 = .ok (.isub, 1) := dk_100 (dk_at dksJ20_dec_0 9 rfl rfl)
theorem dJ20_dec_10 : decode cJ20_dec 10 = .ok (.istore_n 0, 1) := dk_59 (dk_at dksJ20_dec_0 10 rfl rfl)
theorem dJ20_dec_11 : decode cJ20_dec 11 = .ok (.iload_n 0, 1) := dk_26 (dk_at dksJ20_dec_0 11 rfl rfl)
theorem dJ20_dec_12 : decode cJ20_dec 12 = .ok (.ireturn, 1) := dk_172 (dk_at dksJ20_dec_0 12 rfl rfl)
abbrev cJ20_grow : ByteArray := prog_54_method_1_code
def yJ20_grow : MethodName := ⟨RJ20, "grow", "(I)V"⟩
def dkwJ20_grow_7 : List UInt8 := [177]
abbrev dktJ20_grow_7 : List UInt8 := dkwJ20_grow_7 ++ []
def dkwJ20_grow_6 : List UInt8 := [181, 0, 24, 54, 8, 21, 7, 21, 8, 162, 0, 15, 25, 5, 21, 7, 1, 83, 132, 7, 1, 167, 255, 240]
abbrev dktJ20_grow_6 : List UInt8 := dkwJ20_grow_6 ++ dktJ20_grow_7
def dkwJ20_grow_5 : List UInt8 := [42, 180, 0, 24, 100, 184, 0, 27, 42, 180, 0, 24, 54, 7, 42, 89, 180, 0, 24, 21, 6, 96, 90]
abbrev dktJ20_grow_5 : List UInt8 := dkwJ20_grow_5 ++ dktJ20_grow_6
def dkwJ20_grow_4 : List UInt8 := [198, 0, 71, 29, 28, 100, 54, 6, 25, 5, 42, 180, 0, 24, 25, 5, 42, 180, 0, 24, 21, 6, 96, 28]
abbrev dktJ20_grow_4 : List UInt8 := dkwJ20_grow_4 ++ dktJ20_grow_5
def dkwJ20_grow_3 : List UInt8 := [180, 0, 24, 161, 0, 24, 42, 180, 0, 20, 42, 180, 0, 24, 160, 0, 81, 25, 5, 42, 180, 0, 24, 50]
abbrev dktJ20_grow_3 : List UInt8 := dkwJ20_grow_3 ++ dktJ20_grow_4
def dkwJ20_grow_2 : List UInt8 := [182, 0, 10, 62, 42, 42, 180, 0, 3, 29, 184, 0, 14, 90, 181, 0, 3, 58, 5, 42, 180, 0, 20, 42]
abbrev dktJ20_grow_2 : List UInt8 := dkwJ20_grow_2 ++ dktJ20_grow_3
def dkwJ20_grow_1 : List UInt8 := [21, 4, 27, 161, 0, 15, 28, 21, 4, 96, 89, 62, 18, 9, 100, 158, 0, 11, 42, 27, 21, 4]
abbrev dktJ20_grow_1 : List UInt8 := dkwJ20_grow_1 ++ dktJ20_grow_2
def dkwJ20_grow_0 : List UInt8 := [42, 180, 0, 3, 190, 61, 28, 16, 64, 162, 0, 9, 28, 5, 96, 167, 0, 6, 28, 4, 122, 54, 4]
abbrev dktJ20_grow_0 : List UInt8 := dkwJ20_grow_0 ++ dktJ20_grow_1
theorem dksJ20_grow_0 : cJ20_grow.data.toList.drop 0 = dktJ20_grow_0 := by decide +kernel
theorem dksJ20_grow_1 : cJ20_grow.data.toList.drop 23 = dktJ20_grow_1 := dk_seg dksJ20_grow_0 23 rfl rfl
theorem dksJ20_grow_2 : cJ20_grow.data.toList.drop 45 = dktJ20_grow_2 := dk_seg dksJ20_grow_1 22 rfl rfl
theorem dksJ20_grow_3 : cJ20_grow.data.toList.drop 69 = dktJ20_grow_3 := dk_seg dksJ20_grow_2 24 rfl rfl
theorem dksJ20_grow_4 : cJ20_grow.data.toList.drop 93 = dktJ20_grow_4 := dk_seg dksJ20_grow_3 24 rfl rfl
theorem dksJ20_grow_5 : cJ20_grow.data.toList.drop 117 = dktJ20_grow_5 := dk_seg dksJ20_grow_4 24 rfl rfl
theorem dksJ20_grow_6 : cJ20_grow.data.toList.drop 140 = dktJ20_grow_6 := dk_seg dksJ20_grow_5 23 rfl rfl
theorem dksJ20_grow_7 : cJ20_grow.data.toList.drop 164 = dktJ20_grow_7 := dk_seg dksJ20_grow_6 24 rfl rfl
theorem dJ20_grow_0 : decode cJ20_grow 0 = .ok (.aload_n 0, 1) := dk_42 (dk_at dksJ20_grow_0 0 rfl rfl)
theorem dJ20_grow_1 : decode cJ20_grow 1 = .ok (.getfield 3, 3) := dk_180 0 3 (dk_at dksJ20_grow_0 1 rfl rfl)
theorem dJ20_grow_4 : decode cJ20_grow 4 = .ok (.arraylength, 1) := dk_190 (dk_at dksJ20_grow_0 4 rfl rfl)
theorem dJ20_grow_5 : decode cJ20_grow 5 = .ok (.istore_n 2, 1) := dk_61 (dk_at dksJ20_grow_0 5 rfl rfl)
theorem dJ20_grow_6 : decode cJ20_grow 6 = .ok (.iload_n 2, 1) := dk_28 (dk_at dksJ20_grow_0 6 rfl rfl)
theorem dJ20_grow_7 : decode cJ20_grow 7 = .ok (.bipush 64, 2) := dk_16 64 (dk_at dksJ20_grow_0 7 rfl rfl)
theorem dJ20_grow_9 : decode cJ20_grow 9 = .ok (.if_icmp .ge 9, 3) := dk_162 0 9 (dk_at dksJ20_grow_0 9 rfl rfl)
theorem dJ20_grow_12 : decode cJ20_grow 12 = .ok (.iload_n 2, 1) := dk_28 (dk_at dksJ20_grow_0 12 rfl rfl)
theorem dJ20_grow_13 : decode cJ20_grow 13 = .ok (.iconst 2, 1) := dk_5 (dk_at dksJ20_grow_0 13 rfl rfl)
theorem dJ20_grow_14 : decode cJ20_grow 14 = .ok (.iadd, 1) := dk_96 (dk_at dksJ20_grow_0 14 rfl rfl)
theorem dJ20_grow_15 : decode cJ20_grow 15 = .ok (.goto 6, 3) := dk_167 0 6 (dk_at dksJ20_grow_0 15 rfl rfl)
theorem dJ20_grow_18 : decode cJ20_grow 18 = .ok (.iload_n 2, 1) := dk_28 (dk_at dksJ20_grow_0 18 rfl rfl)
theorem dJ20_grow_19 : decode cJ20_grow 19 = .ok (.iconst 1, 1) := dk_4 (dk_at dksJ20_grow_0 19 rfl rfl)
theorem dJ20_grow_20 : decode cJ20_grow 20 = .ok (.ishr, 1) := dk_122 (dk_at dksJ20_grow_0 20 rfl rfl)
theorem dJ20_grow_21 : decode cJ20_grow 21 = .ok (.istore 4, 2) := dk_54 4 (dk_at dksJ20_grow_0 21 rfl rfl)
theorem dJ20_grow_23 : decode cJ20_grow 23 = .ok (.iload 4, 2) := dk_21 4 (dk_at dksJ20_grow_1 0 rfl rfl)
theorem dJ20_grow_25 : decode cJ20_grow 25 = .ok (.iload_n 1, 1) := dk_27 (dk_at dksJ20_grow_1 2 rfl rfl)
theorem dJ20_grow_26 : decode cJ20_grow 26 = .ok (.if_icmp .lt 15, 3) := dk_161 0 15 (dk_at dksJ20_grow_1 3 rfl rfl)
theorem dJ20_grow_29 : decode cJ20_grow 29 = .ok (.iload_n 2, 1) := dk_28 (dk_at dksJ20_grow_1 6 rfl rfl)
theorem dJ20_grow_30 : decode cJ20_grow 30 = .ok (.iload 4, 2) := dk_21 4 (dk_at dksJ20_grow_1 7 rfl rfl)
theorem dJ20_grow_32 : decode cJ20_grow 32 = .ok (.iadd, 1) := dk_96 (dk_at dksJ20_grow_1 9 rfl rfl)
theorem dJ20_grow_33 : decode cJ20_grow 33 = .ok (.dup, 1) := dk_89 (dk_at dksJ20_grow_1 10 rfl rfl)
theorem dJ20_grow_34 : decode cJ20_grow 34 = .ok (.istore_n 3, 1) := dk_62 (dk_at dksJ20_grow_1 11 rfl rfl)
theorem dJ20_grow_35 : decode cJ20_grow 35 = .ok (.ldc 9, 2) := dk_18 9 (dk_at dksJ20_grow_1 12 rfl rfl)
theorem dJ20_grow_37 : decode cJ20_grow 37 = .ok (.isub, 1) := dk_100 (dk_at dksJ20_grow_1 14 rfl rfl)
theorem dJ20_grow_38 : decode cJ20_grow 38 = .ok (.ifCond .le 11, 3) := dk_158 0 11 (dk_at dksJ20_grow_1 15 rfl rfl)
theorem dJ20_grow_41 : decode cJ20_grow 41 = .ok (.aload_n 0, 1) := dk_42 (dk_at dksJ20_grow_1 18 rfl rfl)
theorem dJ20_grow_42 : decode cJ20_grow 42 = .ok (.iload_n 1, 1) := dk_27 (dk_at dksJ20_grow_1 19 rfl rfl)
theorem dJ20_grow_43 : decode cJ20_grow 43 = .ok (.iload 4, 2) := dk_21 4 (dk_at dksJ20_grow_1 20 rfl rfl)
theorem dJ20_grow_45 : decode cJ20_grow 45 = .ok (.invokevirtual 10, 3) := dk_182 0 10 (dk_at dksJ20_grow_2 0 rfl rfl)
theorem dJ20_grow_48 : decode cJ20_grow 48 = .ok (.istore_n 3, 1) := dk_62 (dk_at dksJ20_grow_2 3 rfl rfl)
theorem dJ20_grow_49 : decode cJ20_grow 49 = .ok (.aload_n 0, 1) := dk_42 (dk_at dksJ20_grow_2 4 rfl rfl)
theorem dJ20_grow_50 : decode cJ20_grow 50 = .ok (.aload_n 0, 1) := dk_42 (dk_at dksJ20_grow_2 5 rfl rfl)
theorem dJ20_grow_51 : decode cJ20_grow 51 = .ok (.getfield 3, 3) := dk_180 0 3 (dk_at dksJ20_grow_2 6 rfl rfl)
theorem dJ20_grow_54 : decode cJ20_grow 54 = .ok (.iload_n 3, 1) := dk_29 (dk_at dksJ20_grow_2 9 rfl rfl)
theorem dJ20_grow_55 : decode cJ20_grow 55 = .ok (.invokestatic 14, 3) := dk_184 0 14 (dk_at dksJ20_grow_2 10 rfl rfl)
theorem dJ20_grow_58 : decode cJ20_grow 58 = .ok (.dup_x1, 1) := dk_90 (dk_at dksJ20_grow_2 13 rfl rfl)
theorem dJ20_grow_59 : decode cJ20_grow 59 = .ok (.putfield 3, 3) := dk_181 0 3 (dk_at dksJ20_grow_2 14 rfl rfl)
theorem dJ20_grow_62 : decode cJ20_grow 62 = .ok (.astore 5, 2) := dk_58 5 (dk_at dksJ20_grow_2 17 rfl rfl)
theorem dJ20_grow_64 : decode cJ20_grow 64 = .ok (.aload_n 0, 1) := dk_42 (dk_at dksJ20_grow_2 19 rfl rfl)
theorem dJ20_grow_65 : decode cJ20_grow 65 = .ok (.getfield 20, 3) := dk_180 0 20 (dk_at dksJ20_grow_2 20 rfl rfl)
theorem dJ20_grow_68 : decode cJ20_grow 68 = .ok (.aload_n 0, 1) := dk_42 (dk_at dksJ20_grow_2 23 rfl rfl)
theorem dJ20_grow_69 : decode cJ20_grow 69 = .ok (.getfield 24, 3) := dk_180 0 24 (dk_at dksJ20_grow_3 0 rfl rfl)
theorem dJ20_grow_72 : decode cJ20_grow 72 = .ok (.if_icmp .lt 24, 3) := dk_161 0 24 (dk_at dksJ20_grow_3 3 rfl rfl)
theorem dJ20_grow_75 : decode cJ20_grow 75 = .ok (.aload_n 0, 1) := dk_42 (dk_at dksJ20_grow_3 6 rfl rfl)
theorem dJ20_grow_76 : decode cJ20_grow 76 = .ok (.getfield 20, 3) := dk_180 0 20 (dk_at dksJ20_grow_3 7 rfl rfl)
theorem dJ20_grow_79 : decode cJ20_grow 79 = .ok (.aload_n 0, 1) := dk_42 (dk_at dksJ20_grow_3 10 rfl rfl)
theorem dJ20_grow_80 : decode cJ20_grow 80 = .ok (.getfield 24, 3) := dk_180 0 24 (dk_at dksJ20_grow_3 11 rfl rfl)
theorem dJ20_grow_83 : decode cJ20_grow 83 = .ok (.if_icmp .ne 81, 3) := dk_160 0 81 (dk_at dksJ20_grow_3 14 rfl rfl)
theorem dJ20_grow_86 : decode cJ20_grow 86 = .ok (.aload 5, 2) := dk_25 5 (dk_at dksJ20_grow_3 17 rfl rfl)
theorem dJ20_grow_88 : decode cJ20_grow 88 = .ok (.aload_n 0, 1) := dk_42 (dk_at dksJ20_grow_3 19 rfl rfl)
theorem dJ20_grow_89 : decode cJ20_grow 89 = .ok (.getfield 24, 3) := dk_180 0 24 (dk_at dksJ20_grow_3 20 rfl rfl)
theorem dJ20_grow_92 : decode cJ20_grow 92 = .ok (.aaload, 1) := dk_50 (dk_at dksJ20_grow_3 23 rfl rfl)
theorem dJ20_grow_93 : decode cJ20_grow 93 = .ok (.ifnull 71, 3) := dk_198 0 71 (dk_at dksJ20_grow_4 0 rfl rfl)
theorem dJ20_grow_96 : decode cJ20_grow 96 = .ok (.iload_n 3, 1) := dk_29 (dk_at dksJ20_grow_4 3 rfl rfl)
theorem dJ20_grow_97 : decode cJ20_grow 97 = .ok (.iload_n 2, 1) := dk_28 (dk_at dksJ20_grow_4 4 rfl rfl)
theorem dJ20_grow_98 : decode cJ20_grow 98 = .ok (.isub, 1) := dk_100 (dk_at dksJ20_grow_4 5 rfl rfl)
theorem dJ20_grow_99 : decode cJ20_grow 99 = .ok (.istore 6, 2) := dk_54 6 (dk_at dksJ20_grow_4 6 rfl rfl)
theorem dJ20_grow_101 : decode cJ20_grow 101 = .ok (.aload 5, 2) := dk_25 5 (dk_at dksJ20_grow_4 8 rfl rfl)
theorem dJ20_grow_103 : decode cJ20_grow 103 = .ok (.aload_n 0, 1) := dk_42 (dk_at dksJ20_grow_4 10 rfl rfl)
theorem dJ20_grow_104 : decode cJ20_grow 104 = .ok (.getfield 24, 3) := dk_180 0 24 (dk_at dksJ20_grow_4 11 rfl rfl)
theorem dJ20_grow_107 : decode cJ20_grow 107 = .ok (.aload 5, 2) := dk_25 5 (dk_at dksJ20_grow_4 14 rfl rfl)
theorem dJ20_grow_109 : decode cJ20_grow 109 = .ok (.aload_n 0, 1) := dk_42 (dk_at dksJ20_grow_4 16 rfl rfl)
theorem dJ20_grow_110 : decode cJ20_grow 110 = .ok (.getfield 24, 3) := dk_180 0 24 (dk_at dksJ20_grow_4 17 rfl rfl)
theorem dJ20_grow_113 : decode cJ20_grow 113 = .ok (.iload 6, 2) := dk_21 6 (dk_at dksJ20_grow_4 20 rfl rfl)
theorem dJ20_grow_115 : decode cJ20_grow 115 = .ok (.iadd, 1) := dk_96 (dk_at dksJ20_grow_4 22 rfl rfl)
theorem dJ20_grow_116 : decode cJ20_grow 116 = .ok (.iload_n 2, 1) := dk_28 (dk_at dksJ20_grow_4 23 rfl rfl)
theorem dJ20_grow_117 : decode cJ20_grow 117 = .ok (.aload_n 0, 1) := dk_42 (dk_at dksJ20_grow_5 0 rfl rfl)
theorem dJ20_grow_118 : decode cJ20_grow 118 = .ok (.getfield 24, 3) := dk_180 0 24 (dk_at dksJ20_grow_5 1 rfl rfl)
theorem dJ20_grow_121 : decode cJ20_grow 121 = .ok (.isub, 1) := dk_100 (dk_at dksJ20_grow_5 4 rfl rfl)
theorem dJ20_grow_122 : decode cJ20_grow 122 = .ok (.invokestatic 27, 3) := dk_184 0 27 (dk_at dksJ20_grow_5 5 rfl rfl)
theorem dJ20_grow_125 : decode cJ20_grow 125 = .ok (.aload_n 0, 1) := dk_42 (dk_at dksJ20_grow_5 8 rfl rfl)
theorem dJ20_grow_126 : decode cJ20_grow 126 = .ok (.getfield 24, 3) := dk_180 0 24 (dk_at dksJ20_grow_5 9 rfl rfl)
theorem dJ20_grow_129 : decode cJ20_grow 129 = .ok (.istore 7, 2) := dk_54 7 (dk_at dksJ20_grow_5 12 rfl rfl)
theorem dJ20_grow_131 : decode cJ20_grow 131 = .ok (.aload_n 0, 1) := dk_42 (dk_at dksJ20_grow_5 14 rfl rfl)
theorem dJ20_grow_132 : decode cJ20_grow 132 = .ok (.dup, 1) := dk_89 (dk_at dksJ20_grow_5 15 rfl rfl)
theorem dJ20_grow_133 : decode cJ20_grow 133 = .ok (.getfield 24, 3) := dk_180 0 24 (dk_at dksJ20_grow_5 16 rfl rfl)
theorem dJ20_grow_136 : decode cJ20_grow 136 = .ok (.iload 6, 2) := dk_21 6 (dk_at dksJ20_grow_5 19 rfl rfl)
theorem dJ20_grow_138 : decode cJ20_grow 138 = .ok (.iadd, 1) := dk_96 (dk_at dksJ20_grow_5 21 rfl rfl)
theorem dJ20_grow_139 : decode cJ20_grow 139 = .ok (.dup_x1, 1) := dk_90 (dk_at dksJ20_grow_5 22 rfl rfl)
theorem dJ20_grow_140 : decode cJ20_grow 140 = .ok (.putfield 24, 3) := dk_181 0 24 (dk_at dksJ20_grow_6 0 rfl rfl)
theorem dJ20_grow_143 : decode cJ20_grow 143 = .ok (.istore 8, 2) := dk_54 8 (dk_at dksJ20_grow_6 3 rfl rfl)
theorem dJ20_grow_145 : decode cJ20_grow 145 = .ok (.iload 7, 2) := dk_21 7 (dk_at dksJ20_grow_6 5 rfl rfl)
theorem dJ20_grow_147 : decode cJ20_grow 147 = .ok (.iload 8, 2) := dk_21 8 (dk_at dksJ20_grow_6 7 rfl rfl)
theorem dJ20_grow_149 : decode cJ20_grow 149 = .ok (.if_icmp .ge 15, 3) := dk_162 0 15 (dk_at dksJ20_grow_6 9 rfl rfl)
theorem dJ20_grow_152 : decode cJ20_grow 152 = .ok (.aload 5, 2) := dk_25 5 (dk_at dksJ20_grow_6 12 rfl rfl)
theorem dJ20_grow_154 : decode cJ20_grow 154 = .ok (.iload 7, 2) := dk_21 7 (dk_at dksJ20_grow_6 14 rfl rfl)
theorem dJ20_grow_156 : decode cJ20_grow 156 = .ok (.aconst_null, 1) := dk_1 (dk_at dksJ20_grow_6 16 rfl rfl)
theorem dJ20_grow_157 : decode cJ20_grow 157 = .ok (.aastore, 1) := dk_83 (dk_at dksJ20_grow_6 17 rfl rfl)
theorem dJ20_grow_158 : decode cJ20_grow 158 = .ok (.iinc 7 1, 3) := dk_132 7 1 (dk_at dksJ20_grow_6 18 rfl rfl)
theorem dJ20_grow_161 : decode cJ20_grow 161 = .ok (.goto (-16), 3) := dk_167 255 240 (dk_at dksJ20_grow_6 21 rfl rfl)
theorem dJ20_grow_164 : decode cJ20_grow 164 = .ok (.return_, 1) := dk_177 (dk_at dksJ20_grow_7 0 rfl rfl)
abbrev cJ20_newCapacity : ByteArray := prog_54_method_2_code
def yJ20_newCapacity : MethodName := ⟨RJ20, "newCapacity", "(II)I"⟩
def dkwJ20_newCapacity_2 : List UInt8 := [18, 9, 100, 156, 0, 9, 29, 28, 96, 167, 0, 5, 18, 9, 172]
abbrev dktJ20_newCapacity_2 : List UInt8 := dkwJ20_newCapacity_2 ++ []
def dkwJ20_newCapacity_1 : List UInt8 := [187, 0, 33, 89, 18, 35, 183, 0, 37, 191, 18, 41, 172, 27, 28, 164, 0, 6, 21, 4, 172, 29, 28, 96]
abbrev dktJ20_newCapacity_1 : List UInt8 := dkwJ20_newCapacity_1 ++ dktJ20_newCapacity_2
def dkwJ20_newCapacity_0 : List UInt8 := [42, 180, 0, 3, 190, 62, 29, 27, 96, 89, 54, 4, 18, 9, 100, 158, 0, 21, 21, 4, 156, 0, 13]
abbrev dktJ20_newCapacity_0 : List UInt8 := dkwJ20_newCapacity_0 ++ dktJ20_newCapacity_1
theorem dksJ20_newCapacity_0 : cJ20_newCapacity.data.toList.drop 0 = dktJ20_newCapacity_0 := by decide +kernel
theorem dksJ20_newCapacity_1 : cJ20_newCapacity.data.toList.drop 23 = dktJ20_newCapacity_1 := dk_seg dksJ20_newCapacity_0 23 rfl rfl
theorem dksJ20_newCapacity_2 : cJ20_newCapacity.data.toList.drop 47 = dktJ20_newCapacity_2 := dk_seg dksJ20_newCapacity_1 24 rfl rfl
theorem dJ20_newCapacity_0 : decode cJ20_newCapacity 0 = .ok (.aload_n 0, 1) := dk_42 (dk_at dksJ20_newCapacity_0 0 rfl rfl)
theorem dJ20_newCapacity_1 : decode cJ20_newCapacity 1 = .ok (.getfield 3, 3) := dk_180 0 3 (dk_at dksJ20_newCapacity_0 1 rfl rfl)
theorem dJ20_newCapacity_4 : decode cJ20_newCapacity 4 = .ok (.arraylength, 1) := dk_190 (dk_at dksJ20_newCapacity_0 4 rfl rfl)
theorem dJ20_newCapacity_5 : decode cJ20_newCapacity 5 = .ok (.istore_n 3, 1) := dk_62 (dk_at dksJ20_newCapacity_0 5 rfl rfl)
theorem dJ20_newCapacity_6 : decode cJ20_newCapacity 6 = .ok (.iload_n 3, 1) := dk_29 (dk_at dksJ20_newCapacity_0 6 rfl rfl)
theorem dJ20_newCapacity_7 : decode cJ20_newCapacity 7 = .ok (.iload_n 1, 1) := dk_27 (dk_at dksJ20_newCapacity_0 7 rfl rfl)
theorem dJ20_newCapacity_8 : decode cJ20_newCapacity 8 = .ok (.iadd, 1) := dk_96 (dk_at dksJ20_newCapacity_0 8 rfl rfl)
theorem dJ20_newCapacity_9 : decode cJ20_newCapacity 9 = .ok (.dup, 1) := dk_89 (dk_at dksJ20_newCapacity_0 9 rfl rfl)
theorem dJ20_newCapacity_10 : decode cJ20_newCapacity 10 = .ok (.istore 4, 2) := dk_54 4 (dk_at dksJ20_newCapacity_0 10 rfl rfl)
theorem dJ20_newCapacity_12 : decode cJ20_newCapacity 12 = .ok (.ldc 9, 2) := dk_18 9 (dk_at dksJ20_newCapacity_0 12 rfl rfl)
theorem dJ20_newCapacity_14 : decode cJ20_newCapacity 14 = .ok (.isub, 1) := dk_100 (dk_at dksJ20_newCapacity_0 14 rfl rfl)
theorem dJ20_newCapacity_15 : decode cJ20_newCapacity 15 = .ok (.ifCond .le 21, 3) := dk_158 0 21 (dk_at dksJ20_newCapacity_0 15 rfl rfl)
theorem dJ20_newCapacity_18 : decode cJ20_newCapacity 18 = .ok (.iload 4, 2) := dk_21 4 (dk_at dksJ20_newCapacity_0 18 rfl rfl)
theorem dJ20_newCapacity_20 : decode cJ20_newCapacity 20 = .ok (.ifCond .ge 13, 3) := dk_156 0 13 (dk_at dksJ20_newCapacity_0 20 rfl rfl)
theorem dJ20_newCapacity_23 : decode cJ20_newCapacity 23 = .ok (.new 33, 3) := dk_187 0 33 (dk_at dksJ20_newCapacity_1 0 rfl rfl)
theorem dJ20_newCapacity_26 : decode cJ20_newCapacity 26 = .ok (.dup, 1) := dk_89 (dk_at dksJ20_newCapacity_1 3 rfl rfl)
theorem dJ20_newCapacity_27 : decode cJ20_newCapacity 27 = .ok (.ldc 35, 2) := dk_18 35 (dk_at dksJ20_newCapacity_1 4 rfl rfl)
theorem dJ20_newCapacity_29 : decode cJ20_newCapacity 29 = .ok (.invokespecial 37, 3) := dk_183 0 37 (dk_at dksJ20_newCapacity_1 6 rfl rfl)
theorem dJ20_newCapacity_32 : decode cJ20_newCapacity 32 = .ok (.athrow, 1) := dk_191 (dk_at dksJ20_newCapacity_1 9 rfl rfl)
theorem dJ20_newCapacity_33 : decode cJ20_newCapacity 33 = .ok (.ldc 41, 2) := dk_18 41 (dk_at dksJ20_newCapacity_1 10 rfl rfl)
theorem dJ20_newCapacity_35 : decode cJ20_newCapacity 35 = .ok (.ireturn, 1) := dk_172 (dk_at dksJ20_newCapacity_1 12 rfl rfl)
theorem dJ20_newCapacity_36 : decode cJ20_newCapacity 36 = .ok (.iload_n 1, 1) := dk_27 (dk_at dksJ20_newCapacity_1 13 rfl rfl)
theorem dJ20_newCapacity_37 : decode cJ20_newCapacity 37 = .ok (.iload_n 2, 1) := dk_28 (dk_at dksJ20_newCapacity_1 14 rfl rfl)
theorem dJ20_newCapacity_38 : decode cJ20_newCapacity 38 = .ok (.if_icmp .le 6, 3) := dk_164 0 6 (dk_at dksJ20_newCapacity_1 15 rfl rfl)
theorem dJ20_newCapacity_41 : decode cJ20_newCapacity 41 = .ok (.iload 4, 2) := dk_21 4 (dk_at dksJ20_newCapacity_1 18 rfl rfl)
theorem dJ20_newCapacity_43 : decode cJ20_newCapacity 43 = .ok (.ireturn, 1) := dk_172 (dk_at dksJ20_newCapacity_1 20 rfl rfl)
theorem dJ20_newCapacity_44 : decode cJ20_newCapacity 44 = .ok (.iload_n 3, 1) := dk_29 (dk_at dksJ20_newCapacity_1 21 rfl rfl)
theorem dJ20_newCapacity_45 : decode cJ20_newCapacity 45 = .ok (.iload_n 2, 1) := dk_28 (dk_at dksJ20_newCapacity_1 22 rfl rfl)
theorem dJ20_newCapacity_46 : decode cJ20_newCapacity 46 = .ok (.iadd, 1) := dk_96 (dk_at dksJ20_newCapacity_1 23 rfl rfl)
theorem dJ20_newCapacity_47 : decode cJ20_newCapacity 47 = .ok (.ldc 9, 2) := dk_18 9 (dk_at dksJ20_newCapacity_2 0 rfl rfl)
theorem dJ20_newCapacity_49 : decode cJ20_newCapacity 49 = .ok (.isub, 1) := dk_100 (dk_at dksJ20_newCapacity_2 2 rfl rfl)
theorem dJ20_newCapacity_50 : decode cJ20_newCapacity 50 = .ok (.ifCond .ge 9, 3) := dk_156 0 9 (dk_at dksJ20_newCapacity_2 3 rfl rfl)
theorem dJ20_newCapacity_53 : decode cJ20_newCapacity 53 = .ok (.iload_n 3, 1) := dk_29 (dk_at dksJ20_newCapacity_2 6 rfl rfl)
theorem dJ20_newCapacity_54 : decode cJ20_newCapacity 54 = .ok (.iload_n 2, 1) := dk_28 (dk_at dksJ20_newCapacity_2 7 rfl rfl)
theorem dJ20_newCapacity_55 : decode cJ20_newCapacity 55 = .ok (.iadd, 1) := dk_96 (dk_at dksJ20_newCapacity_2 8 rfl rfl)
theorem dJ20_newCapacity_56 : decode cJ20_newCapacity 56 = .ok (.goto 5, 3) := dk_167 0 5 (dk_at dksJ20_newCapacity_2 9 rfl rfl)
theorem dJ20_newCapacity_59 : decode cJ20_newCapacity 59 = .ok (.ldc 9, 2) := dk_18 9 (dk_at dksJ20_newCapacity_2 12 rfl rfl)
theorem dJ20_newCapacity_61 : decode cJ20_newCapacity 61 = .ok (.ireturn, 1) := dk_172 (dk_at dksJ20_newCapacity_2 14 rfl rfl)
abbrev cJ20_size : ByteArray := prog_54_method_37_code
def yJ20_size : MethodName := ⟨RJ20, "size", "()I"⟩
def dkwJ20_size_0 : List UInt8 := [42, 180, 0, 20, 42, 180, 0, 24, 42, 180, 0, 3, 190, 184, 0, 127, 172]
abbrev dktJ20_size_0 : List UInt8 := dkwJ20_size_0 ++ []
theorem dksJ20_size_0 : cJ20_size.data.toList.drop 0 = dktJ20_size_0 := by decide +kernel
theorem dJ20_size_0 : decode cJ20_size 0 = .ok (.aload_n 0, 1) := dk_42 (dk_at dksJ20_size_0 0 rfl rfl)
theorem dJ20_size_1 : decode cJ20_size 1 = .ok (.getfield 20, 3) := dk_180 0 20 (dk_at dksJ20_size_0 1 rfl rfl)
theorem dJ20_size_4 : decode cJ20_size 4 = .ok (.aload_n 0, 1) := dk_42 (dk_at dksJ20_size_0 4 rfl rfl)
theorem dJ20_size_5 : decode cJ20_size 5 = .ok (.getfield 24, 3) := dk_180 0 24 (dk_at dksJ20_size_0 5 rfl rfl)
theorem dJ20_size_8 : decode cJ20_size 8 = .ok (.aload_n 0, 1) := dk_42 (dk_at dksJ20_size_0 8 rfl rfl)
theorem dJ20_size_9 : decode cJ20_size 9 = .ok (.getfield 3, 3) := dk_180 0 3 (dk_at dksJ20_size_0 9 rfl rfl)
theorem dJ20_size_12 : decode cJ20_size 12 = .ok (.arraylength, 1) := dk_190 (dk_at dksJ20_size_0 12 rfl rfl)
theorem dJ20_size_13 : decode cJ20_size 13 = .ok (.invokestatic 127, 3) := dk_184 0 127 (dk_at dksJ20_size_0 13 rfl rfl)
theorem dJ20_size_16 : decode cJ20_size 16 = .ok (.ireturn, 1) := dk_172 (dk_at dksJ20_size_0 16 rfl rfl)
abbrev cJ20_sub : ByteArray := prog_54_method_9_code
def yJ20_sub : MethodName := ⟨RJ20, "sub", "(III)I"⟩
def dkwJ20_sub_0 : List UInt8 := [26, 27, 100, 89, 59, 156, 0, 7, 26, 28, 96, 59, 26, 172]
abbrev dktJ20_sub_0 : List UInt8 := dkwJ20_sub_0 ++ []
theorem dksJ20_sub_0 : cJ20_sub.data.toList.drop 0 = dktJ20_sub_0 := by decide +kernel
theorem dJ20_sub_0 : decode cJ20_sub 0 = .ok (.iload_n 0, 1) := dk_26 (dk_at dksJ20_sub_0 0 rfl rfl)
theorem dJ20_sub_1 : decode cJ20_sub 1 = .ok (.iload_n 1, 1) := dk_27 (dk_at dksJ20_sub_0 1 rfl rfl)
theorem dJ20_sub_2 : decode cJ20_sub 2 = .ok (.isub, 1) := dk_100 (dk_at dksJ20_sub_0 2 rfl rfl)
theorem dJ20_sub_3 : decode cJ20_sub 3 = .ok (.dup, 1) := dk_89 (dk_at dksJ20_sub_0 3 rfl rfl)
theorem dJ20_sub_4 : decode cJ20_sub 4 = .ok (.istore_n 0, 1) := dk_59 (dk_at dksJ20_sub_0 4 rfl rfl)
theorem dJ20_sub_5 : decode cJ20_sub 5 = .ok (.ifCond .ge 7, 3) := dk_156 0 7 (dk_at dksJ20_sub_0 5 rfl rfl)
theorem dJ20_sub_8 : decode cJ20_sub 8 = .ok (.iload_n 0, 1) := dk_26 (dk_at dksJ20_sub_0 8 rfl rfl)
theorem dJ20_sub_9 : decode cJ20_sub 9 = .ok (.iload_n 2, 1) := dk_28 (dk_at dksJ20_sub_0 9 rfl rfl)
theorem dJ20_sub_10 : decode cJ20_sub 10 = .ok (.iadd, 1) := dk_96 (dk_at dksJ20_sub_0 10 rfl rfl)
theorem dJ20_sub_11 : decode cJ20_sub 11 = .ok (.istore_n 0, 1) := dk_59 (dk_at dksJ20_sub_0 11 rfl rfl)
theorem dJ20_sub_12 : decode cJ20_sub 12 = .ok (.iload_n 0, 1) := dk_26 (dk_at dksJ20_sub_0 12 rfl rfl)
theorem dJ20_sub_13 : decode cJ20_sub 13 = .ok (.ireturn, 1) := dk_172 (dk_at dksJ20_sub_0 13 rfl rfl)
abbrev cJ20_removeLast : ByteArray := prog_54_method_19_code
def yJ20_removeLast : MethodName := ⟨RJ20, "removeLast", "()Ljava/lang/Object;"⟩
def dkwJ20_removeLast_0 : List UInt8 := [42, 182, 0, 100, 76, 43, 199, 0, 11, 187, 0, 97, 89, 183, 0, 99, 191, 43, 176]
abbrev dktJ20_removeLast_0 : List UInt8 := dkwJ20_removeLast_0 ++ []
theorem dksJ20_removeLast_0 : cJ20_removeLast.data.toList.drop 0 = dktJ20_removeLast_0 := by decide +kernel
theorem dJ20_removeLast_0 : decode cJ20_removeLast 0 = .ok (.aload_n 0, 1) := dk_42 (dk_at dksJ20_removeLast_0 0 rfl rfl)
theorem dJ20_removeLast_1 : decode cJ20_removeLast 1 = .ok (.invokevirtual 100, 3) := dk_182 0 100 (dk_at dksJ20_removeLast_0 1 rfl rfl)
theorem dJ20_removeLast_4 : decode cJ20_removeLast 4 = .ok (.astore_n 1, 1) := dk_76 (dk_at dksJ20_removeLast_0 4 rfl rfl)
theorem dJ20_removeLast_5 : decode cJ20_removeLast 5 = .ok (.aload_n 1, 1) := dk_43 (dk_at dksJ20_removeLast_0 5 rfl rfl)
theorem dJ20_removeLast_6 : decode cJ20_removeLast 6 = .ok (.ifnonnull 11, 3) := dk_199 0 11 (dk_at dksJ20_removeLast_0 6 rfl rfl)
theorem dJ20_removeLast_9 : decode cJ20_removeLast 9 = .ok (.new 97, 3) := dk_187 0 97 (dk_at dksJ20_removeLast_0 9 rfl rfl)
theorem dJ20_removeLast_12 : decode cJ20_removeLast 12 = .ok (.dup, 1) := dk_89 (dk_at dksJ20_removeLast_0 12 rfl rfl)
theorem dJ20_removeLast_13 : decode cJ20_removeLast 13 = .ok (.invokespecial 99, 3) := dk_183 0 99 (dk_at dksJ20_removeLast_0 13 rfl rfl)
theorem dJ20_removeLast_16 : decode cJ20_removeLast 16 = .ok (.athrow, 1) := dk_191 (dk_at dksJ20_removeLast_0 16 rfl rfl)
theorem dJ20_removeLast_17 : decode cJ20_removeLast 17 = .ok (.aload_n 1, 1) := dk_43 (dk_at dksJ20_removeLast_0 17 rfl rfl)
theorem dJ20_removeLast_18 : decode cJ20_removeLast 18 = .ok (.areturn, 1) := dk_176 (dk_at dksJ20_removeLast_0 18 rfl rfl)
abbrev cJ20_pollLast : ByteArray := prog_54_method_21_code
def yJ20_pollLast : MethodName := ⟨RJ20, "pollLast", "()Ljava/lang/Object;"⟩
def dkwJ20_pollLast_1 : List UInt8 := [198, 0, 12, 43, 42, 28, 90, 181, 0, 20, 1, 83, 45, 176]
abbrev dktJ20_pollLast_1 : List UInt8 := dkwJ20_pollLast_1 ++ []
def dkwJ20_pollLast_0 : List UInt8 := [42, 180, 0, 3, 89, 76, 42, 180, 0, 20, 43, 190, 184, 0, 68, 89, 61, 184, 0, 103, 78, 45]
abbrev dktJ20_pollLast_0 : List UInt8 := dkwJ20_pollLast_0 ++ dktJ20_pollLast_1
theorem dksJ20_pollLast_0 : cJ20_pollLast.data.toList.drop 0 = dktJ20_pollLast_0 := by decide +kernel
theorem dksJ20_pollLast_1 : cJ20_pollLast.data.toList.drop 22 = dktJ20_pollLast_1 := dk_seg dksJ20_pollLast_0 22 rfl rfl
theorem dJ20_pollLast_0 : decode cJ20_pollLast 0 = .ok (.aload_n 0, 1) := dk_42 (dk_at dksJ20_pollLast_0 0 rfl rfl)
theorem dJ20_pollLast_1 : decode cJ20_pollLast 1 = .ok (.getfield 3, 3) := dk_180 0 3 (dk_at dksJ20_pollLast_0 1 rfl rfl)
theorem dJ20_pollLast_4 : decode cJ20_pollLast 4 = .ok (.dup, 1) := dk_89 (dk_at dksJ20_pollLast_0 4 rfl rfl)
theorem dJ20_pollLast_5 : decode cJ20_pollLast 5 = .ok (.astore_n 1, 1) := dk_76 (dk_at dksJ20_pollLast_0 5 rfl rfl)
theorem dJ20_pollLast_6 : decode cJ20_pollLast 6 = .ok (.aload_n 0, 1) := dk_42 (dk_at dksJ20_pollLast_0 6 rfl rfl)
theorem dJ20_pollLast_7 : decode cJ20_pollLast 7 = .ok (.getfield 20, 3) := dk_180 0 20 (dk_at dksJ20_pollLast_0 7 rfl rfl)
theorem dJ20_pollLast_10 : decode cJ20_pollLast 10 = .ok (.aload_n 1, 1) := dk_43 (dk_at dksJ20_pollLast_0 10 rfl rfl)
theorem dJ20_pollLast_11 : decode cJ20_pollLast 11 = .ok (.arraylength, 1) := dk_190 (dk_at dksJ20_pollLast_0 11 rfl rfl)
theorem dJ20_pollLast_12 : decode cJ20_pollLast 12 = .ok (.invokestatic 68, 3) := dk_184 0 68 (dk_at dksJ20_pollLast_0 12 rfl rfl)
theorem dJ20_pollLast_15 : decode cJ20_pollLast 15 = .ok (.dup, 1) := dk_89 (dk_at dksJ20_pollLast_0 15 rfl rfl)
theorem dJ20_pollLast_16 : decode cJ20_pollLast 16 = .ok (.istore_n 2, 1) := dk_61 (dk_at dksJ20_pollLast_0 16 rfl rfl)
theorem dJ20_pollLast_17 : decode cJ20_pollLast 17 = .ok (.invokestatic 103, 3) := dk_184 0 103 (dk_at dksJ20_pollLast_0 17 rfl rfl)
theorem dJ20_pollLast_20 : decode cJ20_pollLast 20 = .ok (.astore_n 3, 1) := dk_78 (dk_at dksJ20_pollLast_0 20 rfl rfl)
theorem dJ20_pollLast_21 : decode cJ20_pollLast 21 = .ok (.aload_n 3, 1) := dk_45 (dk_at dksJ20_pollLast_0 21 rfl rfl)
theorem dJ20_pollLast_22 : decode cJ20_pollLast 22 = .ok (.ifnull 12, 3) := dk_198 0 12 (dk_at dksJ20_pollLast_1 0 rfl rfl)
theorem dJ20_pollLast_25 : decode cJ20_pollLast 25 = .ok (.aload_n 1, 1) := dk_43 (dk_at dksJ20_pollLast_1 3 rfl rfl)
theorem dJ20_pollLast_26 : decode cJ20_pollLast 26 = .ok (.aload_n 0, 1) := dk_42 (dk_at dksJ20_pollLast_1 4 rfl rfl)
theorem dJ20_pollLast_27 : decode cJ20_pollLast 27 = .ok (.iload_n 2, 1) := dk_28 (dk_at dksJ20_pollLast_1 5 rfl rfl)
theorem dJ20_pollLast_28 : decode cJ20_pollLast 28 = .ok (.dup_x1, 1) := dk_90 (dk_at dksJ20_pollLast_1 6 rfl rfl)
theorem dJ20_pollLast_29 : decode cJ20_pollLast 29 = .ok (.putfield 20, 3) := dk_181 0 20 (dk_at dksJ20_pollLast_1 7 rfl rfl)
theorem dJ20_pollLast_32 : decode cJ20_pollLast 32 = .ok (.aconst_null, 1) := dk_1 (dk_at dksJ20_pollLast_1 10 rfl rfl)
theorem dJ20_pollLast_33 : decode cJ20_pollLast 33 = .ok (.aastore, 1) := dk_83 (dk_at dksJ20_pollLast_1 11 rfl rfl)
theorem dJ20_pollLast_34 : decode cJ20_pollLast 34 = .ok (.aload_n 3, 1) := dk_45 (dk_at dksJ20_pollLast_1 12 rfl rfl)
theorem dJ20_pollLast_35 : decode cJ20_pollLast 35 = .ok (.areturn, 1) := dk_176 (dk_at dksJ20_pollLast_1 13 rfl rfl)
abbrev cJ20_elementAt : ByteArray := prog_54_method_10_code
def yJ20_elementAt : MethodName := ⟨RJ20, "elementAt", "([Ljava/lang/Object;I)Ljava/lang/Object;"⟩
def dkwJ20_elementAt_0 : List UInt8 := [42, 27, 50, 176]
abbrev dktJ20_elementAt_0 : List UInt8 := dkwJ20_elementAt_0 ++ []
theorem dksJ20_elementAt_0 : cJ20_elementAt.data.toList.drop 0 = dktJ20_elementAt_0 := by decide +kernel
theorem dJ20_elementAt_0 : decode cJ20_elementAt 0 = .ok (.aload_n 0, 1) := dk_42 (dk_at dksJ20_elementAt_0 0 rfl rfl)
theorem dJ20_elementAt_1 : decode cJ20_elementAt 1 = .ok (.iload_n 1, 1) := dk_27 (dk_at dksJ20_elementAt_0 1 rfl rfl)
theorem dJ20_elementAt_2 : decode cJ20_elementAt 2 = .ok (.aaload, 1) := dk_50 (dk_at dksJ20_elementAt_0 2 rfl rfl)
theorem dJ20_elementAt_3 : decode cJ20_elementAt 3 = .ok (.areturn, 1) := dk_176 (dk_at dksJ20_elementAt_0 3 rfl rfl)
abbrev cJ20_delete : ByteArray := prog_54_method_36_code
def yJ20_delete : MethodName := ⟨RJ20, "delete", "(I)Z"⟩
def dkwJ20_delete_8 : List UInt8 := [4, 172]
abbrev dktJ20_delete_8 : List UInt8 := dkwJ20_delete_8 ++ []
def dkwJ20_delete_7 : List UInt8 := [4, 100, 44, 3, 50, 83, 44, 4, 44, 3, 21, 5, 4, 100, 184, 0, 27, 44, 42, 180, 0, 20, 1, 83]
abbrev dktJ20_delete_7 : List UInt8 := dkwJ20_delete_7 ++ dktJ20_delete_8
def dkwJ20_delete_6 : List UInt8 := [21, 7, 184, 0, 27, 167, 0, 36, 44, 27, 4, 96, 44, 27, 29, 27, 4, 96, 100, 184, 0, 27, 44, 29]
abbrev dktJ20_delete_6 : List UInt8 := dkwJ20_delete_6 ++ dktJ20_delete_7
def dkwJ20_delete_5 : List UInt8 := [21, 5, 29, 184, 0, 68, 181, 0, 20, 27, 42, 180, 0, 20, 163, 0, 17, 44, 27, 4, 96, 44, 27]
abbrev dktJ20_delete_5 : List UInt8 := dkwJ20_delete_5 ++ dktJ20_delete_6
def dkwJ20_delete_4 : List UInt8 := [96, 100, 184, 0, 27, 44, 21, 4, 1, 83, 42, 21, 4, 29, 184, 0, 74, 181, 0, 24, 3, 172, 42]
abbrev dktJ20_delete_4 : List UInt8 := dkwJ20_delete_4 ++ dktJ20_delete_5
def dkwJ20_delete_3 : List UInt8 := [27, 184, 0, 27, 44, 3, 44, 29, 4, 100, 50, 83, 44, 21, 4, 44, 21, 4, 4, 96, 21, 6, 27, 4]
abbrev dktJ20_delete_3 : List UInt8 := dkwJ20_delete_3 ++ dktJ20_delete_4
def dkwJ20_delete_2 : List UInt8 := [27, 163, 0, 19, 44, 21, 4, 44, 21, 4, 4, 96, 21, 6, 184, 0, 27, 167, 0, 36, 44, 3, 44, 4]
abbrev dktJ20_delete_2 : List UInt8 := dkwJ20_delete_2 ++ dktJ20_delete_3
def dkwJ20_delete_1 : List UInt8 := [180, 0, 20, 89, 54, 5, 27, 29, 184, 0, 127, 4, 100, 54, 7, 21, 6, 21, 7, 162, 0, 75, 21, 4]
abbrev dktJ20_delete_1 : List UInt8 := dkwJ20_delete_1 ++ dktJ20_delete_2
def dkwJ20_delete_0 : List UInt8 := [42, 180, 0, 3, 77, 44, 190, 62, 27, 42, 180, 0, 24, 89, 54, 4, 29, 184, 0, 127, 54, 6, 42]
abbrev dktJ20_delete_0 : List UInt8 := dkwJ20_delete_0 ++ dktJ20_delete_1
theorem dksJ20_delete_0 : cJ20_delete.data.toList.drop 0 = dktJ20_delete_0 := by decide +kernel
theorem dksJ20_delete_1 : cJ20_delete.data.toList.drop 23 = dktJ20_delete_1 := dk_seg dksJ20_delete_0 23 rfl rfl
theorem dksJ20_delete_2 : cJ20_delete.data.toList.drop 47 = dktJ20_delete_2 := dk_seg dksJ20_delete_1 24 rfl rfl
theorem dksJ20_delete_3 : cJ20_delete.data.toList.drop 71 = dktJ20_delete_3 := dk_seg dksJ20_delete_2 24 rfl rfl
theorem dksJ20_delete_4 : cJ20_delete.data.toList.drop 95 = dktJ20_delete_4 := dk_seg dksJ20_delete_3 24 rfl rfl
theorem dksJ20_delete_5 : cJ20_delete.data.toList.drop 118 = dktJ20_delete_5 := dk_seg dksJ20_delete_4 23 rfl rfl
theorem dksJ20_delete_6 : cJ20_delete.data.toList.drop 141 = dktJ20_delete_6 := dk_seg dksJ20_delete_5 23 rfl rfl
theorem dksJ20_delete_7 : cJ20_delete.data.toList.drop 165 = dktJ20_delete_7 := dk_seg dksJ20_delete_6 24 rfl rfl
theorem dksJ20_delete_8 : cJ20_delete.data.toList.drop 189 = dktJ20_delete_8 := dk_seg dksJ20_delete_7 24 rfl rfl
theorem dJ20_delete_0 : decode cJ20_delete 0 = .ok (.aload_n 0, 1) := dk_42 (dk_at dksJ20_delete_0 0 rfl rfl)
theorem dJ20_delete_1 : decode cJ20_delete 1 = .ok (.getfield 3, 3) := dk_180 0 3 (dk_at dksJ20_delete_0 1 rfl rfl)
theorem dJ20_delete_4 : decode cJ20_delete 4 = .ok (.astore_n 2, 1) := dk_77 (dk_at dksJ20_delete_0 4 rfl rfl)
theorem dJ20_delete_5 : decode cJ20_delete 5 = .ok (.aload_n 2, 1) := dk_44 (dk_at dksJ20_delete_0 5 rfl rfl)
theorem dJ20_delete_6 : decode cJ20_delete 6 = .ok (.arraylength, 1) := dk_190 (dk_at dksJ20_delete_0 6 rfl rfl)
theorem dJ20_delete_7 : decode cJ20_delete 7 = .ok (.istore_n 3, 1) := dk_62 (dk_at dksJ20_delete_0 7 rfl rfl)
theorem dJ20_delete_8 : decode cJ20_delete 8 = .ok (.iload_n 1, 1) := dk_27 (dk_at dksJ20_delete_0 8 rfl rfl)
theorem dJ20_delete_9 : decode cJ20_delete 9 = .ok (.aload_n 0, 1) := dk_42 (dk_at dksJ20_delete_0 9 rfl rfl)
theorem dJ20_delete_10 : decode cJ20_delete 10 = .ok (.getfield 24, 3) := dk_180 0 24 (dk_at dksJ20_delete_0 10 rfl rfl)
theorem dJ20_delete_13 : decode cJ20_delete 13 = .ok (.dup, 1) := dk_89 (dk_at dksJ20_delete_0 13 rfl rfl)
theorem dJ20_delete_14 : decode cJ20_delete 14 = .ok (.istore 4, 2) := dk_54 4 (dk_at dksJ20_delete_0 14 rfl rfl)
theorem dJ20_delete_16 : decode cJ20_delete 16 = .ok (.iload_n 3, 1) := dk_29 (dk_at dksJ20_delete_0 16 rfl rfl)
theorem dJ20_delete_17 : decode cJ20_delete 17 = .ok (.invokestatic 127, 3) := dk_184 0 127 (dk_at dksJ20_delete_0 17 rfl rfl)
theorem dJ20_delete_20 : decode cJ20_delete 20 = .ok (.istore 6, 2) := dk_54 6 (dk_at dksJ20_delete_0 20 rfl rfl)
theorem dJ20_delete_22 : decode cJ20_delete 22 = .ok (.aload_n 0, 1) := dk_42 (dk_at dksJ20_delete_0 22 rfl rfl)
theorem dJ20_delete_23 : decode cJ20_delete 23 = .ok (.getfield 20, 3) := dk_180 0 20 (dk_at dksJ20_delete_1 0 rfl rfl)
theorem dJ20_delete_26 : decode cJ20_delete 26 = .ok (.dup, 1) := dk_89 (dk_at dksJ20_delete_1 3 rfl rfl)
theorem dJ20_delete_27 : decode cJ20_delete 27 = .ok (.istore 5, 2) := dk_54 5 (dk_at dksJ20_delete_1 4 rfl rfl)
theorem dJ20_delete_29 : decode cJ20_delete 29 = .ok (.iload_n 1, 1) := dk_27 (dk_at dksJ20_delete_1 6 rfl rfl)
theorem dJ20_delete_30 : decode cJ20_delete 30 = .ok (.iload_n 3, 1) := dk_29 (dk_at dksJ20_delete_1 7 rfl rfl)
theorem dJ20_delete_31 : decode cJ20_delete 31 = .ok (.invokestatic 127, 3) := dk_184 0 127 (dk_at dksJ20_delete_1 8 rfl rfl)
theorem dJ20_delete_34 : decode cJ20_delete 34 = .ok (.iconst 1, 1) := dk_4 (dk_at dksJ20_delete_1 11 rfl rfl)
theorem dJ20_delete_35 : decode cJ20_delete 35 = .ok (.isub, 1) := dk_100 (dk_at dksJ20_delete_1 12 rfl rfl)
theorem dJ20_delete_36 : decode cJ20_delete 36 = .ok (.istore 7, 2) := dk_54 7 (dk_at dksJ20_delete_1 13 rfl rfl)
theorem dJ20_delete_38 : decode cJ20_delete 38 = .ok (.iload 6, 2) := dk_21 6 (dk_at dksJ20_delete_1 15 rfl rfl)
theorem dJ20_delete_40 : decode cJ20_delete 40 = .ok (.iload 7, 2) := dk_21 7 (dk_at dksJ20_delete_1 17 rfl rfl)
theorem dJ20_delete_42 : decode cJ20_delete 42 = .ok (.if_icmp .ge 75, 3) := dk_162 0 75 (dk_at dksJ20_delete_1 19 rfl rfl)
theorem dJ20_delete_45 : decode cJ20_delete 45 = .ok (.iload 4, 2) := dk_21 4 (dk_at dksJ20_delete_1 22 rfl rfl)
theorem dJ20_delete_47 : decode cJ20_delete 47 = .ok (.iload_n 1, 1) := dk_27 (dk_at dksJ20_delete_2 0 rfl rfl)
theorem dJ20_delete_48 : decode cJ20_delete 48 = .ok (.if_icmp .gt 19, 3) := dk_163 0 19 (dk_at dksJ20_delete_2 1 rfl rfl)
theorem dJ20_delete_51 : decode cJ20_delete 51 = .ok (.aload_n 2, 1) := dk_44 (dk_at dksJ20_delete_2 4 rfl rfl)
theorem dJ20_delete_52 : decode cJ20_delete 52 = .ok (.iload 4, 2) := dk_21 4 (dk_at dksJ20_delete_2 5 rfl rfl)
theorem dJ20_delete_54 : decode cJ20_delete 54 = .ok (.aload_n 2, 1) := dk_44 (dk_at dksJ20_delete_2 7 rfl rfl)
theorem dJ20_delete_55 : decode cJ20_delete 55 = .ok (.iload 4, 2) := dk_21 4 (dk_at dksJ20_delete_2 8 rfl rfl)
theorem dJ20_delete_57 : decode cJ20_delete 57 = .ok (.iconst 1, 1) := dk_4 (dk_at dksJ20_delete_2 10 rfl rfl)
theorem dJ20_delete_58 : decode cJ20_delete 58 = .ok (.iadd, 1) := dk_96 (dk_at dksJ20_delete_2 11 rfl rfl)
theorem dJ20_delete_59 : decode cJ20_delete 59 = .ok (.iload 6, 2) := dk_21 6 (dk_at dksJ20_delete_2 12 rfl rfl)
theorem dJ20_delete_61 : decode cJ20_delete 61 = .ok (.invokestatic 27, 3) := dk_184 0 27 (dk_at dksJ20_delete_2 14 rfl rfl)
theorem dJ20_delete_64 : decode cJ20_delete 64 = .ok (.goto 36, 3) := dk_167 0 36 (dk_at dksJ20_delete_2 17 rfl rfl)
theorem dJ20_delete_67 : decode cJ20_delete 67 = .ok (.aload_n 2, 1) := dk_44 (dk_at dksJ20_delete_2 20 rfl rfl)
theorem dJ20_delete_68 : decode cJ20_delete 68 = .ok (.iconst 0, 1) := dk_3 (dk_at dksJ20_delete_2 21 rfl rfl)
theorem dJ20_delete_69 : decode cJ20_delete 69 = .ok (.aload_n 2, 1) := dk_44 (dk_at dksJ20_delete_2 22 rfl rfl)
theorem dJ20_delete_70 : decode cJ20_delete 70 = .ok (.iconst 1, 1) := dk_4 (dk_at dksJ20_delete_2 23 rfl rfl)
theorem dJ20_delete_71 : decode cJ20_delete 71 = .ok (.iload_n 1, 1) := dk_27 (dk_at dksJ20_delete_3 0 rfl rfl)
theorem dJ20_delete_72 : decode cJ20_delete 72 = .ok (.invokestatic 27, 3) := dk_184 0 27 (dk_at dksJ20_delete_3 1 rfl rfl)
theorem dJ20_delete_75 : decode cJ20_delete 75 = .ok (.aload_n 2, 1) := dk_44 (dk_at dksJ20_delete_3 4 rfl rfl)
theorem dJ20_delete_76 : decode cJ20_delete 76 = .ok (.iconst 0, 1) := dk_3 (dk_at dksJ20_delete_3 5 rfl rfl)
theorem dJ20_delete_77 : decode cJ20_delete 77 = .ok (.aload_n 2, 1) := dk_44 (dk_at dksJ20_delete_3 6 rfl rfl)
theorem dJ20_delete_78 : decode cJ20_delete 78 = .ok (.iload_n 3, 1) := dk_29 (dk_at dksJ20_delete_3 7 rfl rfl)
theorem dJ20_delete_79 : decode cJ20_delete 79 = .ok (.iconst 1, 1) := dk_4 (dk_at dksJ20_delete_3 8 rfl rfl)
theorem dJ20_delete_80 : decode cJ20_delete 80 = .ok (.isub, 1) := dk_100 (dk_at dksJ20_delete_3 9 rfl rfl)
theorem dJ20_delete_81 : decode cJ20_delete 81 = .ok (.aaload, 1) := dk_50 (dk_at dksJ20_delete_3 10 rfl rfl)
theorem dJ20_delete_82 : decode cJ20_delete 82 = .ok (.aastore, 1) := dk_83 (dk_at dksJ20_delete_3 11 rfl rfl)
theorem dJ20_delete_83 : decode cJ20_delete 83 = .ok (.aload_n 2, 1) := dk_44 (dk_at dksJ20_delete_3 12 rfl rfl)
theorem dJ20_delete_84 : decode cJ20_delete 84 = .ok (.iload 4, 2) := dk_21 4 (dk_at dksJ20_delete_3 13 rfl rfl)
theorem dJ20_delete_86 : decode cJ20_delete 86 = .ok (.aload_n 2, 1) := dk_44 (dk_at dksJ20_delete_3 15 rfl rfl)
theorem dJ20_delete_87 : decode cJ20_delete 87 = .ok (.iload 4, 2) := dk_21 4 (dk_at dksJ20_delete_3 16 rfl rfl)
theorem dJ20_delete_89 : decode cJ20_delete 89 = .ok (.iconst 1, 1) := dk_4 (dk_at dksJ20_delete_3 18 rfl rfl)
theorem dJ20_delete_90 : decode cJ20_delete 90 = .ok (.iadd, 1) := dk_96 (dk_at dksJ20_delete_3 19 rfl rfl)
theorem dJ20_delete_91 : decode cJ20_delete 91 = .ok (.iload 6, 2) := dk_21 6 (dk_at dksJ20_delete_3 20 rfl rfl)
theorem dJ20_delete_93 : decode cJ20_delete 93 = .ok (.iload_n 1, 1) := dk_27 (dk_at dksJ20_delete_3 22 rfl rfl)
theorem dJ20_delete_94 : decode cJ20_delete 94 = .ok (.iconst 1, 1) := dk_4 (dk_at dksJ20_delete_3 23 rfl rfl)
theorem dJ20_delete_95 : decode cJ20_delete 95 = .ok (.iadd, 1) := dk_96 (dk_at dksJ20_delete_4 0 rfl rfl)
theorem dJ20_delete_96 : decode cJ20_delete 96 = .ok (.isub, 1) := dk_100 (dk_at dksJ20_delete_4 1 rfl rfl)
theorem dJ20_delete_97 : decode cJ20_delete 97 = .ok (.invokestatic 27, 3) := dk_184 0 27 (dk_at dksJ20_delete_4 2 rfl rfl)
theorem dJ20_delete_100 : decode cJ20_delete 100 = .ok (.aload_n 2, 1) := dk_44 (dk_at dksJ20_delete_4 5 rfl rfl)
theorem dJ20_delete_101 : decode cJ20_delete 101 = .ok (.iload 4, 2) := dk_21 4 (dk_at dksJ20_delete_4 6 rfl rfl)
theorem dJ20_delete_103 : decode cJ20_delete 103 = .ok (.aconst_null, 1) := dk_1 (dk_at dksJ20_delete_4 8 rfl rfl)
theorem dJ20_delete_104 : decode cJ20_delete 104 = .ok (.aastore, 1) := dk_83 (dk_at dksJ20_delete_4 9 rfl rfl)
theorem dJ20_delete_105 : decode cJ20_delete 105 = .ok (.aload_n 0, 1) := dk_42 (dk_at dksJ20_delete_4 10 rfl rfl)
theorem dJ20_delete_106 : decode cJ20_delete 106 = .ok (.iload 4, 2) := dk_21 4 (dk_at dksJ20_delete_4 11 rfl rfl)
theorem dJ20_delete_108 : decode cJ20_delete 108 = .ok (.iload_n 3, 1) := dk_29 (dk_at dksJ20_delete_4 13 rfl rfl)
theorem dJ20_delete_109 : decode cJ20_delete 109 = .ok (.invokestatic 74, 3) := dk_184 0 74 (dk_at dksJ20_delete_4 14 rfl rfl)
theorem dJ20_delete_112 : decode cJ20_delete 112 = .ok (.putfield 24, 3) := dk_181 0 24 (dk_at dksJ20_delete_4 17 rfl rfl)
theorem dJ20_delete_115 : decode cJ20_delete 115 = .ok (.iconst 0, 1) := dk_3 (dk_at dksJ20_delete_4 20 rfl rfl)
theorem dJ20_delete_116 : decode cJ20_delete 116 = .ok (.ireturn, 1) := dk_172 (dk_at dksJ20_delete_4 21 rfl rfl)
theorem dJ20_delete_117 : decode cJ20_delete 117 = .ok (.aload_n 0, 1) := dk_42 (dk_at dksJ20_delete_4 22 rfl rfl)
theorem dJ20_delete_118 : decode cJ20_delete 118 = .ok (.iload 5, 2) := dk_21 5 (dk_at dksJ20_delete_5 0 rfl rfl)
theorem dJ20_delete_120 : decode cJ20_delete 120 = .ok (.iload_n 3, 1) := dk_29 (dk_at dksJ20_delete_5 2 rfl rfl)
theorem dJ20_delete_121 : decode cJ20_delete 121 = .ok (.invokestatic 68, 3) := dk_184 0 68 (dk_at dksJ20_delete_5 3 rfl rfl)
theorem dJ20_delete_124 : decode cJ20_delete 124 = .ok (.putfield 20, 3) := dk_181 0 20 (dk_at dksJ20_delete_5 6 rfl rfl)
theorem dJ20_delete_127 : decode cJ20_delete 127 = .ok (.iload_n 1, 1) := dk_27 (dk_at dksJ20_delete_5 9 rfl rfl)
theorem dJ20_delete_128 : decode cJ20_delete 128 = .ok (.aload_n 0, 1) := dk_42 (dk_at dksJ20_delete_5 10 rfl rfl)
theorem dJ20_delete_129 : decode cJ20_delete 129 = .ok (.getfield 20, 3) := dk_180 0 20 (dk_at dksJ20_delete_5 11 rfl rfl)
theorem dJ20_delete_132 : decode cJ20_delete 132 = .ok (.if_icmp .gt 17, 3) := dk_163 0 17 (dk_at dksJ20_delete_5 14 rfl rfl)
theorem dJ20_delete_135 : decode cJ20_delete 135 = .ok (.aload_n 2, 1) := dk_44 (dk_at dksJ20_delete_5 17 rfl rfl)
theorem dJ20_delete_136 : decode cJ20_delete 136 = .ok (.iload_n 1, 1) := dk_27 (dk_at dksJ20_delete_5 18 rfl rfl)
theorem dJ20_delete_137 : decode cJ20_delete 137 = .ok (.iconst 1, 1) := dk_4 (dk_at dksJ20_delete_5 19 rfl rfl)
theorem dJ20_delete_138 : decode cJ20_delete 138 = .ok (.iadd, 1) := dk_96 (dk_at dksJ20_delete_5 20 rfl rfl)
theorem dJ20_delete_139 : decode cJ20_delete 139 = .ok (.aload_n 2, 1) := dk_44 (dk_at dksJ20_delete_5 21 rfl rfl)
theorem dJ20_delete_140 : decode cJ20_delete 140 = .ok (.iload_n 1, 1) := dk_27 (dk_at dksJ20_delete_5 22 rfl rfl)
theorem dJ20_delete_141 : decode cJ20_delete 141 = .ok (.iload 7, 2) := dk_21 7 (dk_at dksJ20_delete_6 0 rfl rfl)
theorem dJ20_delete_143 : decode cJ20_delete 143 = .ok (.invokestatic 27, 3) := dk_184 0 27 (dk_at dksJ20_delete_6 2 rfl rfl)
theorem dJ20_delete_146 : decode cJ20_delete 146 = .ok (.goto 36, 3) := dk_167 0 36 (dk_at dksJ20_delete_6 5 rfl rfl)
theorem dJ20_delete_149 : decode cJ20_delete 149 = .ok (.aload_n 2, 1) := dk_44 (dk_at dksJ20_delete_6 8 rfl rfl)
theorem dJ20_delete_150 : decode cJ20_delete 150 = .ok (.iload_n 1, 1) := dk_27 (dk_at dksJ20_delete_6 9 rfl rfl)
theorem dJ20_delete_151 : decode cJ20_delete 151 = .ok (.iconst 1, 1) := dk_4 (dk_at dksJ20_delete_6 10 rfl rfl)
theorem dJ20_delete_152 : decode cJ20_delete 152 = .ok (.iadd, 1) := dk_96 (dk_at dksJ20_delete_6 11 rfl rfl)
theorem dJ20_delete_153 : decode cJ20_delete 153 = .ok (.aload_n 2, 1) := dk_44 (dk_at dksJ20_delete_6 12 rfl rfl)
theorem dJ20_delete_154 : decode cJ20_delete 154 = .ok (.iload_n 1, 1) := dk_27 (dk_at dksJ20_delete_6 13 rfl rfl)
theorem dJ20_delete_155 : decode cJ20_delete 155 = .ok (.iload_n 3, 1) := dk_29 (dk_at dksJ20_delete_6 14 rfl rfl)
theorem dJ20_delete_156 : decode cJ20_delete 156 = .ok (.iload_n 1, 1) := dk_27 (dk_at dksJ20_delete_6 15 rfl rfl)
theorem dJ20_delete_157 : decode cJ20_delete 157 = .ok (.iconst 1, 1) := dk_4 (dk_at dksJ20_delete_6 16 rfl rfl)
theorem dJ20_delete_158 : decode cJ20_delete 158 = .ok (.iadd, 1) := dk_96 (dk_at dksJ20_delete_6 17 rfl rfl)
theorem dJ20_delete_159 : decode cJ20_delete 159 = .ok (.isub, 1) := dk_100 (dk_at dksJ20_delete_6 18 rfl rfl)
theorem dJ20_delete_160 : decode cJ20_delete 160 = .ok (.invokestatic 27, 3) := dk_184 0 27 (dk_at dksJ20_delete_6 19 rfl rfl)
theorem dJ20_delete_163 : decode cJ20_delete 163 = .ok (.aload_n 2, 1) := dk_44 (dk_at dksJ20_delete_6 22 rfl rfl)
theorem dJ20_delete_164 : decode cJ20_delete 164 = .ok (.iload_n 3, 1) := dk_29 (dk_at dksJ20_delete_6 23 rfl rfl)
theorem dJ20_delete_165 : decode cJ20_delete 165 = .ok (.iconst 1, 1) := dk_4 (dk_at dksJ20_delete_7 0 rfl rfl)
theorem dJ20_delete_166 : decode cJ20_delete 166 = .ok (.isub, 1) := dk_100 (dk_at dksJ20_delete_7 1 rfl rfl)
theorem dJ20_delete_167 : decode cJ20_delete 167 = .ok (.aload_n 2, 1) := dk_44 (dk_at dksJ20_delete_7 2 rfl rfl)
theorem dJ20_delete_168 : decode cJ20_delete 168 = .ok (.iconst 0, 1) := dk_3 (dk_at dksJ20_delete_7 3 rfl rfl)
theorem dJ20_delete_169 : decode cJ20_delete 169 = .ok (.aaload, 1) := dk_50 (dk_at dksJ20_delete_7 4 rfl rfl)
theorem dJ20_delete_170 : decode cJ20_delete 170 = .ok (.aastore, 1) := dk_83 (dk_at dksJ20_delete_7 5 rfl rfl)
theorem dJ20_delete_171 : decode cJ20_delete 171 = .ok (.aload_n 2, 1) := dk_44 (dk_at dksJ20_delete_7 6 rfl rfl)
theorem dJ20_delete_172 : decode cJ20_delete 172 = .ok (.iconst 1, 1) := dk_4 (dk_at dksJ20_delete_7 7 rfl rfl)
theorem dJ20_delete_173 : decode cJ20_delete 173 = .ok (.aload_n 2, 1) := dk_44 (dk_at dksJ20_delete_7 8 rfl rfl)
theorem dJ20_delete_174 : decode cJ20_delete 174 = .ok (.iconst 0, 1) := dk_3 (dk_at dksJ20_delete_7 9 rfl rfl)
theorem dJ20_delete_175 : decode cJ20_delete 175 = .ok (.iload 5, 2) := dk_21 5 (dk_at dksJ20_delete_7 10 rfl rfl)
theorem dJ20_delete_177 : decode cJ20_delete 177 = .ok (.iconst 1, 1) := dk_4 (dk_at dksJ20_delete_7 12 rfl rfl)
theorem dJ20_delete_178 : decode cJ20_delete 178 = .ok (.isub, 1) := dk_100 (dk_at dksJ20_delete_7 13 rfl rfl)
theorem dJ20_delete_179 : decode cJ20_delete 179 = .ok (.invokestatic 27, 3) := dk_184 0 27 (dk_at dksJ20_delete_7 14 rfl rfl)
theorem dJ20_delete_182 : decode cJ20_delete 182 = .ok (.aload_n 2, 1) := dk_44 (dk_at dksJ20_delete_7 17 rfl rfl)
theorem dJ20_delete_183 : decode cJ20_delete 183 = .ok (.aload_n 0, 1) := dk_42 (dk_at dksJ20_delete_7 18 rfl rfl)
theorem dJ20_delete_184 : decode cJ20_delete 184 = .ok (.getfield 20, 3) := dk_180 0 20 (dk_at dksJ20_delete_7 19 rfl rfl)
theorem dJ20_delete_187 : decode cJ20_delete 187 = .ok (.aconst_null, 1) := dk_1 (dk_at dksJ20_delete_7 22 rfl rfl)
theorem dJ20_delete_188 : decode cJ20_delete 188 = .ok (.aastore, 1) := dk_83 (dk_at dksJ20_delete_7 23 rfl rfl)
theorem dJ20_delete_189 : decode cJ20_delete 189 = .ok (.iconst 1, 1) := dk_4 (dk_at dksJ20_delete_8 0 rfl rfl)
theorem dJ20_delete_190 : decode cJ20_delete 190 = .ok (.ireturn, 1) := dk_172 (dk_at dksJ20_delete_8 1 rfl rfl)
abbrev cJ20_peekFirst : ByteArray := prog_54_method_24_code
def yJ20_peekFirst : MethodName := ⟨RJ20, "peekFirst", "()Ljava/lang/Object;"⟩
def dkwJ20_peekFirst_0 : List UInt8 := [42, 180, 0, 3, 42, 180, 0, 24, 184, 0, 103, 176]
abbrev dktJ20_peekFirst_0 : List UInt8 := dkwJ20_peekFirst_0 ++ []
theorem dksJ20_peekFirst_0 : cJ20_peekFirst.data.toList.drop 0 = dktJ20_peekFirst_0 := by decide +kernel
theorem dJ20_peekFirst_0 : decode cJ20_peekFirst 0 = .ok (.aload_n 0, 1) := dk_42 (dk_at dksJ20_peekFirst_0 0 rfl rfl)
theorem dJ20_peekFirst_1 : decode cJ20_peekFirst 1 = .ok (.getfield 3, 3) := dk_180 0 3 (dk_at dksJ20_peekFirst_0 1 rfl rfl)
theorem dJ20_peekFirst_4 : decode cJ20_peekFirst 4 = .ok (.aload_n 0, 1) := dk_42 (dk_at dksJ20_peekFirst_0 4 rfl rfl)
theorem dJ20_peekFirst_5 : decode cJ20_peekFirst 5 = .ok (.getfield 24, 3) := dk_180 0 24 (dk_at dksJ20_peekFirst_0 5 rfl rfl)
theorem dJ20_peekFirst_8 : decode cJ20_peekFirst 8 = .ok (.invokestatic 103, 3) := dk_184 0 103 (dk_at dksJ20_peekFirst_0 8 rfl rfl)
theorem dJ20_peekFirst_11 : decode cJ20_peekFirst 11 = .ok (.areturn, 1) := dk_176 (dk_at dksJ20_peekFirst_0 11 rfl rfl)
abbrev cJ20_iterator : ByteArray := prog_54_method_39_code
def yJ20_iterator : MethodName := ⟨RJ20, "iterator", "()Ljava/util/Iterator;"⟩
def dkwJ20_iterator_0 : List UInt8 := [187, 0, 131, 89, 42, 183, 0, 133, 176]
abbrev dktJ20_iterator_0 : List UInt8 := dkwJ20_iterator_0 ++ []
theorem dksJ20_iterator_0 : cJ20_iterator.data.toList.drop 0 = dktJ20_iterator_0 := by decide +kernel
theorem dJ20_iterator_0 : decode cJ20_iterator 0 = .ok (.new 131, 3) := dk_187 0 131 (dk_at dksJ20_iterator_0 0 rfl rfl)
theorem dJ20_iterator_3 : decode cJ20_iterator 3 = .ok (.dup, 1) := dk_89 (dk_at dksJ20_iterator_0 3 rfl rfl)
theorem dJ20_iterator_4 : decode cJ20_iterator 4 = .ok (.aload_n 0, 1) := dk_42 (dk_at dksJ20_iterator_0 4 rfl rfl)
theorem dJ20_iterator_5 : decode cJ20_iterator 5 = .ok (.invokespecial 133, 3) := dk_183 0 133 (dk_at dksJ20_iterator_0 5 rfl rfl)
theorem dJ20_iterator_8 : decode cJ20_iterator 8 = .ok (.areturn, 1) := dk_176 (dk_at dksJ20_iterator_0 8 rfl rfl)
theorem q72 : (Jvm.Cond.initialized "java/util/ArrayDeque") ∈ lw_all := lw_g (lw_at lw_m1 25 rfl) rfl
theorem q532 : (Jvm.Cond.instantiable "java/util/ArrayDeque" (3 : Nat)) ∈ lw_all := lw_g (lw_at lw_m3 5 rfl) rfl
theorem q534 : (Jvm.Cond.instanceMethod ({ cls := "java/util/ArrayDeque", name := "<init>", desc := "()V" } : Jvm.MethodName)) ∈ lw_all := lw_g (lw_at lw_m3 7 rfl) rfl
theorem q535 : (Jvm.Cond.code ({ cls := "java/util/ArrayDeque", name := "<init>", desc := "()V" } : Jvm.MethodName) prog_54_method_3_code (1 : Nat) (Option.none : Option Jvm.ClassFile.FieldType)) ∈ lw_all := lw_g (lw_at lw_m3 8 rfl) rfl
theorem q536 : (Jvm.Cond.methodLink "java/util/ArrayDeque" (42 : Nat) ({ cls := "java/util/AbstractCollection", name := "<init>", desc := "()V" } : Jvm.MethodName)) ∈ lw_all := lw_g (lw_at lw_m3 9 rfl) rfl
theorem q537 : (Jvm.Cond.classLink "java/util/ArrayDeque" (47 : Nat) "java/lang/Object") ∈ lw_all := lw_g (lw_at lw_m3 10 rfl) rfl
theorem q538 : (Jvm.Cond.fieldLink "java/util/ArrayDeque" (3 : Nat) "java/util/ArrayDeque" "elements" "[Ljava/lang/Object;") ∈ lw_all := lw_g (lw_at lw_m3 11 rfl) rfl
theorem q541 : (Jvm.Cond.fieldLink "java/util/ArrayDeque" (24 : Nat) "java/util/ArrayDeque" "head" "I") ∈ lw_all := lw_g (lw_at lw_m3 14 rfl) rfl
theorem q542 : (Jvm.Cond.fieldLink "java/util/ArrayDeque" (20 : Nat) "java/util/ArrayDeque" "tail" "I") ∈ lw_all := lw_g (lw_at lw_m3 15 rfl) rfl
theorem q543 : (Jvm.Cond.lays "java/util/ArrayDeque" "java/util/ArrayDeque" "elements" "[Ljava/lang/Object;") ∈ lw_all := lw_g (lw_at lw_m3 16 rfl) rfl
theorem q544 : (Jvm.Cond.soleField "java/util/ArrayDeque" "elements") ∈ lw_all := lw_g (lw_at lw_m3 17 rfl) rfl
theorem q545 : (Jvm.Cond.lays "java/util/ArrayDeque" "java/util/ArrayDeque" "head" "I") ∈ lw_all := lw_g (lw_at lw_m3 18 rfl) rfl
theorem q546 : (Jvm.Cond.soleField "java/util/ArrayDeque" "head") ∈ lw_all := lw_g (lw_at lw_m3 19 rfl) rfl
theorem q547 : (Jvm.Cond.lays "java/util/ArrayDeque" "java/util/ArrayDeque" "tail" "I") ∈ lw_all := lw_g (lw_at lw_m3 20 rfl) rfl
theorem q548 : (Jvm.Cond.soleField "java/util/ArrayDeque" "tail") ∈ lw_all := lw_g (lw_at lw_m3 21 rfl) rfl
theorem q549 : (Jvm.Cond.superclass "java/util/ArrayDeque" "java/util/AbstractCollection") ∈ lw_all := lw_g (lw_at lw_m3 22 rfl) rfl
theorem q846 : (Jvm.Cond.selects "java/util/ArrayDeque" ({ cls := "java/lang/Object", name := "getClass", desc := "()Ljava/lang/Class;" } : Jvm.MethodName) ({ cls := "java/lang/Object", name := "getClass", desc := "()Ljava/lang/Class;" } : Jvm.MethodName)) ∈ lw_all := lw_g (lw_at lw_m4 79 rfl) rfl
theorem q908 : (Jvm.Cond.static ({ cls := "java/util/ArrayDeque", name := "nonNullElementAt", desc := "([Ljava/lang/Object;I)Ljava/lang/Object;" } : Jvm.MethodName)) ∈ lw_all := lw_g (lw_at lw_m4 141 rfl) rfl
theorem q909 : (Jvm.Cond.code ({ cls := "java/util/ArrayDeque", name := "nonNullElementAt", desc := "([Ljava/lang/Object;I)Ljava/lang/Object;" } : Jvm.MethodName) prog_54_method_11_code (3 : Nat) (Option.some (Jvm.ClassFile.FieldType.object "java/lang/Object"))) ∈ lw_all := lw_g (lw_at lw_m4 142 rfl) rfl
theorem q911 : (Jvm.Cond.static ({ cls := "java/util/ArrayDeque", name := "inc", desc := "(II)I" } : Jvm.MethodName)) ∈ lw_all := lw_g (lw_at lw_m4 144 rfl) rfl
theorem q912 : (Jvm.Cond.code ({ cls := "java/util/ArrayDeque", name := "inc", desc := "(II)I" } : Jvm.MethodName) prog_54_method_6_code (2 : Nat) (Option.some Jvm.ClassFile.FieldType.int)) ∈ lw_all := lw_g (lw_at lw_m4 145 rfl) rfl
theorem q1290 : (Jvm.Cond.instanceMethod ({ cls := "java/util/ArrayDeque", name := "addFirst", desc := "(Ljava/lang/Object;)V" } : Jvm.MethodName)) ∈ lw_all := lw_g (lw_at lw_m6 43 rfl) rfl
theorem q1291 : (Jvm.Cond.selects "java/util/ArrayDeque" ({ cls := "java/util/ArrayDeque", name := "addFirst", desc := "(Ljava/lang/Object;)V" } : Jvm.MethodName) ({ cls := "java/util/ArrayDeque", name := "addFirst", desc := "(Ljava/lang/Object;)V" } : Jvm.MethodName)) ∈ lw_all := lw_g (lw_at lw_m6 44 rfl) rfl
theorem q1292 : (Jvm.Cond.code ({ cls := "java/util/ArrayDeque", name := "addFirst", desc := "(Ljava/lang/Object;)V" } : Jvm.MethodName) prog_54_method_12_code (3 : Nat) (Option.none : Option Jvm.ClassFile.FieldType)) ∈ lw_all := lw_g (lw_at lw_m6 45 rfl) rfl
theorem q1293 : (Jvm.Cond.methodLink "java/util/ArrayDeque" (68 : Nat) ({ cls := "java/util/ArrayDeque", name := "dec", desc := "(II)I" } : Jvm.MethodName)) ∈ lw_all := lw_g (lw_at lw_m6 46 rfl) rfl
theorem q1294 : (Jvm.Cond.static ({ cls := "java/util/ArrayDeque", name := "dec", desc := "(II)I" } : Jvm.MethodName)) ∈ lw_all := lw_g (lw_at lw_m6 47 rfl) rfl
theorem q1295 : (Jvm.Cond.code ({ cls := "java/util/ArrayDeque", name := "dec", desc := "(II)I" } : Jvm.MethodName) prog_54_method_7_code (2 : Nat) (Option.some Jvm.ClassFile.FieldType.int)) ∈ lw_all := lw_g (lw_at lw_m6 48 rfl) rfl
theorem q1296 : (Jvm.Cond.methodLink "java/util/ArrayDeque" (71 : Nat) ({ cls := "java/util/ArrayDeque", name := "grow", desc := "(I)V" } : Jvm.MethodName)) ∈ lw_all := lw_g (lw_at lw_m6 49 rfl) rfl
theorem q1297 : (Jvm.Cond.privateMethod ({ cls := "java/util/ArrayDeque", name := "grow", desc := "(I)V" } : Jvm.MethodName)) ∈ lw_tbl := lw_at lw_m6 50 rfl
theorem q1298 : (Jvm.Cond.instanceMethod ({ cls := "java/util/ArrayDeque", name := "grow", desc := "(I)V" } : Jvm.MethodName)) ∈ lw_all := lw_g (lw_at lw_m6 51 rfl) rfl
theorem q1299 : (Jvm.Cond.code ({ cls := "java/util/ArrayDeque", name := "grow", desc := "(I)V" } : Jvm.MethodName) prog_54_method_1_code (9 : Nat) (Option.none : Option Jvm.ClassFile.FieldType)) ∈ lw_all := lw_g (lw_at lw_m6 52 rfl) rfl
theorem q1300 : (Jvm.Cond.constant "java/util/ArrayDeque" (9 : Nat) (2147483639 : Int32)) ∈ lw_all := lw_g (lw_at lw_m6 53 rfl) rfl
theorem q1301 : (Jvm.Cond.methodLink "java/util/ArrayDeque" (10 : Nat) ({ cls := "java/util/ArrayDeque", name := "newCapacity", desc := "(II)I" } : Jvm.MethodName)) ∈ lw_all := lw_g (lw_at lw_m6 54 rfl) rfl
theorem q1302 : (Jvm.Cond.privateMethod ({ cls := "java/util/ArrayDeque", name := "newCapacity", desc := "(II)I" } : Jvm.MethodName)) ∈ lw_tbl := lw_at lw_m6 55 rfl
theorem q1303 : (Jvm.Cond.instanceMethod ({ cls := "java/util/ArrayDeque", name := "newCapacity", desc := "(II)I" } : Jvm.MethodName)) ∈ lw_all := lw_g (lw_at lw_m6 56 rfl) rfl
theorem q1304 : (Jvm.Cond.code ({ cls := "java/util/ArrayDeque", name := "newCapacity", desc := "(II)I" } : Jvm.MethodName) prog_54_method_2_code (5 : Nat) (Option.some Jvm.ClassFile.FieldType.int)) ∈ lw_all := lw_g (lw_at lw_m6 57 rfl) rfl
theorem q1305 : (Jvm.Cond.classLink "java/util/ArrayDeque" (33 : Nat) "java/lang/IllegalStateException") ∈ lw_all := lw_g (lw_at lw_m6 58 rfl) rfl
theorem q1306 : (Jvm.Cond.stringRef "java/util/ArrayDeque" (35 : Nat) "Sorry, deque too big") ∈ lw_tbl := lw_at lw_m6 59 rfl
theorem q1307 : (Jvm.Cond.methodLink "java/util/ArrayDeque" (37 : Nat) ({ cls := "java/lang/IllegalStateException", name := "<init>", desc := "(Ljava/lang/String;)V" } : Jvm.MethodName)) ∈ lw_all := lw_g (lw_at lw_m6 60 rfl) rfl
theorem q1311 : (Jvm.Cond.constant "java/util/ArrayDeque" (41 : Nat) (2147483647 : Int32)) ∈ lw_all := lw_g (lw_at lw_m6 64 rfl) rfl
theorem q1312 : (Jvm.Cond.methodLink "java/util/ArrayDeque" (14 : Nat) ({ cls := "java/util/Arrays", name := "copyOf", desc := "([Ljava/lang/Object;I)[Ljava/lang/Object;" } : Jvm.MethodName)) ∈ lw_all := lw_g (lw_at lw_m6 65 rfl) rfl
theorem q1321 : (Jvm.Cond.methodLink "java/util/ArrayDeque" (27 : Nat) ({ cls := "java/lang/System", name := "arraycopy", desc := "(Ljava/lang/Object;ILjava/lang/Object;II)V" } : Jvm.MethodName)) ∈ lw_all := lw_g (lw_at lw_m6 74 rfl) rfl
theorem q1323 : (Jvm.Cond.instanceMethod ({ cls := "java/util/ArrayDeque", name := "size", desc := "()I" } : Jvm.MethodName)) ∈ lw_all := lw_g (lw_at lw_m6 76 rfl) rfl
theorem q1324 : (Jvm.Cond.selects "java/util/ArrayDeque" ({ cls := "java/util/ArrayDeque", name := "size", desc := "()I" } : Jvm.MethodName) ({ cls := "java/util/ArrayDeque", name := "size", desc := "()I" } : Jvm.MethodName)) ∈ lw_all := lw_g (lw_at lw_m6 77 rfl) rfl
theorem q1325 : (Jvm.Cond.code ({ cls := "java/util/ArrayDeque", name := "size", desc := "()I" } : Jvm.MethodName) prog_54_method_37_code (1 : Nat) (Option.some Jvm.ClassFile.FieldType.int)) ∈ lw_all := lw_g (lw_at lw_m6 78 rfl) rfl
theorem q1326 : (Jvm.Cond.methodLink "java/util/ArrayDeque" (127 : Nat) ({ cls := "java/util/ArrayDeque", name := "sub", desc := "(III)I" } : Jvm.MethodName)) ∈ lw_all := lw_g (lw_at lw_m6 79 rfl) rfl
theorem q1327 : (Jvm.Cond.static ({ cls := "java/util/ArrayDeque", name := "sub", desc := "(III)I" } : Jvm.MethodName)) ∈ lw_all := lw_g (lw_at lw_m6 80 rfl) rfl
theorem q1328 : (Jvm.Cond.code ({ cls := "java/util/ArrayDeque", name := "sub", desc := "(III)I" } : Jvm.MethodName) prog_54_method_9_code (3 : Nat) (Option.some Jvm.ClassFile.FieldType.int)) ∈ lw_all := lw_g (lw_at lw_m6 81 rfl) rfl
theorem q1330 : (Jvm.Cond.instanceMethod ({ cls := "java/util/ArrayDeque", name := "removeLast", desc := "()Ljava/lang/Object;" } : Jvm.MethodName)) ∈ lw_all := lw_g (lw_at lw_m6 83 rfl) rfl
theorem q1331 : (Jvm.Cond.selects "java/util/ArrayDeque" ({ cls := "java/util/ArrayDeque", name := "removeLast", desc := "()Ljava/lang/Object;" } : Jvm.MethodName) ({ cls := "java/util/ArrayDeque", name := "removeLast", desc := "()Ljava/lang/Object;" } : Jvm.MethodName)) ∈ lw_all := lw_g (lw_at lw_m6 84 rfl) rfl
theorem q1332 : (Jvm.Cond.code ({ cls := "java/util/ArrayDeque", name := "removeLast", desc := "()Ljava/lang/Object;" } : Jvm.MethodName) prog_54_method_19_code (2 : Nat) (Option.some (Jvm.ClassFile.FieldType.object "java/lang/Object"))) ∈ lw_all := lw_g (lw_at lw_m6 85 rfl) rfl
theorem q1333 : (Jvm.Cond.methodLink "java/util/ArrayDeque" (100 : Nat) ({ cls := "java/util/ArrayDeque", name := "pollLast", desc := "()Ljava/lang/Object;" } : Jvm.MethodName)) ∈ lw_all := lw_g (lw_at lw_m6 86 rfl) rfl
theorem q1334 : (Jvm.Cond.instanceMethod ({ cls := "java/util/ArrayDeque", name := "pollLast", desc := "()Ljava/lang/Object;" } : Jvm.MethodName)) ∈ lw_all := lw_g (lw_at lw_m6 87 rfl) rfl
theorem q1335 : (Jvm.Cond.selects "java/util/ArrayDeque" ({ cls := "java/util/ArrayDeque", name := "pollLast", desc := "()Ljava/lang/Object;" } : Jvm.MethodName) ({ cls := "java/util/ArrayDeque", name := "pollLast", desc := "()Ljava/lang/Object;" } : Jvm.MethodName)) ∈ lw_all := lw_g (lw_at lw_m6 88 rfl) rfl
theorem q1336 : (Jvm.Cond.code ({ cls := "java/util/ArrayDeque", name := "pollLast", desc := "()Ljava/lang/Object;" } : Jvm.MethodName) prog_54_method_21_code (4 : Nat) (Option.some (Jvm.ClassFile.FieldType.object "java/lang/Object"))) ∈ lw_all := lw_g (lw_at lw_m6 89 rfl) rfl
theorem q1337 : (Jvm.Cond.methodLink "java/util/ArrayDeque" (103 : Nat) ({ cls := "java/util/ArrayDeque", name := "elementAt", desc := "([Ljava/lang/Object;I)Ljava/lang/Object;" } : Jvm.MethodName)) ∈ lw_all := lw_g (lw_at lw_m6 90 rfl) rfl
theorem q1338 : (Jvm.Cond.static ({ cls := "java/util/ArrayDeque", name := "elementAt", desc := "([Ljava/lang/Object;I)Ljava/lang/Object;" } : Jvm.MethodName)) ∈ lw_all := lw_g (lw_at lw_m6 91 rfl) rfl
theorem q1339 : (Jvm.Cond.code ({ cls := "java/util/ArrayDeque", name := "elementAt", desc := "([Ljava/lang/Object;I)Ljava/lang/Object;" } : Jvm.MethodName) prog_54_method_10_code (2 : Nat) (Option.some (Jvm.ClassFile.FieldType.object "java/lang/Object"))) ∈ lw_all := lw_g (lw_at lw_m6 92 rfl) rfl
theorem q1340 : (Jvm.Cond.classLink "java/util/ArrayDeque" (97 : Nat) "java/util/NoSuchElementException") ∈ lw_all := lw_g (lw_at lw_m6 93 rfl) rfl
theorem q1341 : (Jvm.Cond.methodLink "java/util/ArrayDeque" (99 : Nat) ({ cls := "java/util/NoSuchElementException", name := "<init>", desc := "()V" } : Jvm.MethodName)) ∈ lw_all := lw_g (lw_at lw_m6 94 rfl) rfl
theorem q1510 : (Jvm.Cond.instanceMethod ({ cls := "java/util/ArrayDeque", name := "delete", desc := "(I)Z" } : Jvm.MethodName)) ∈ lw_all := lw_g (lw_at lw_m7 23 rfl) rfl
theorem q1511 : (Jvm.Cond.selects "java/util/ArrayDeque" ({ cls := "java/util/ArrayDeque", name := "delete", desc := "(I)Z" } : Jvm.MethodName) ({ cls := "java/util/ArrayDeque", name := "delete", desc := "(I)Z" } : Jvm.MethodName)) ∈ lw_all := lw_g (lw_at lw_m7 24 rfl) rfl
theorem q1512 : (Jvm.Cond.code ({ cls := "java/util/ArrayDeque", name := "delete", desc := "(I)Z" } : Jvm.MethodName) prog_54_method_36_code (8 : Nat) (Option.some Jvm.ClassFile.FieldType.boolean)) ∈ lw_all := lw_g (lw_at lw_m7 25 rfl) rfl
theorem q1513 : (Jvm.Cond.methodLink "java/util/ArrayDeque" (74 : Nat) ({ cls := "java/util/ArrayDeque", name := "inc", desc := "(II)I" } : Jvm.MethodName)) ∈ lw_all := lw_g (lw_at lw_m7 26 rfl) rfl
theorem q2125 : (Jvm.Cond.instanceMethod ({ cls := "java/util/ArrayDeque", name := "peekFirst", desc := "()Ljava/lang/Object;" } : Jvm.MethodName)) ∈ lw_all := lw_g (lw_at lw_m9 158 rfl) rfl
theorem q2126 : (Jvm.Cond.selects "java/util/ArrayDeque" ({ cls := "java/util/ArrayDeque", name := "peekFirst", desc := "()Ljava/lang/Object;" } : Jvm.MethodName) ({ cls := "java/util/ArrayDeque", name := "peekFirst", desc := "()Ljava/lang/Object;" } : Jvm.MethodName)) ∈ lw_all := lw_g (lw_at lw_m9 159 rfl) rfl
theorem q2127 : (Jvm.Cond.code ({ cls := "java/util/ArrayDeque", name := "peekFirst", desc := "()Ljava/lang/Object;" } : Jvm.MethodName) prog_54_method_24_code (1 : Nat) (Option.some (Jvm.ClassFile.FieldType.object "java/lang/Object"))) ∈ lw_all := lw_g (lw_at lw_m9 160 rfl) rfl
theorem q2129 : (Jvm.Cond.instanceMethod ({ cls := "java/util/ArrayDeque", name := "iterator", desc := "()Ljava/util/Iterator;" } : Jvm.MethodName)) ∈ lw_all := lw_g (lw_at lw_m9 162 rfl) rfl
theorem q2130 : (Jvm.Cond.selects "java/util/ArrayDeque" ({ cls := "java/util/ArrayDeque", name := "iterator", desc := "()Ljava/util/Iterator;" } : Jvm.MethodName) ({ cls := "java/util/ArrayDeque", name := "iterator", desc := "()Ljava/util/Iterator;" } : Jvm.MethodName)) ∈ lw_all := lw_g (lw_at lw_m9 163 rfl) rfl
theorem q2131 : (Jvm.Cond.code ({ cls := "java/util/ArrayDeque", name := "iterator", desc := "()Ljava/util/Iterator;" } : Jvm.MethodName) prog_54_method_39_code (1 : Nat) (Option.some (Jvm.ClassFile.FieldType.object "java/util/Iterator"))) ∈ lw_all := lw_g (lw_at lw_m9 164 rfl) rfl
theorem q2132 : (Jvm.Cond.classLink "java/util/ArrayDeque" (131 : Nat) "java/util/ArrayDeque$DeqIterator") ∈ lw_all := lw_g (lw_at lw_m9 165 rfl) rfl
theorem q2134 : (Jvm.Cond.methodLink "java/util/ArrayDeque" (133 : Nat) ({ cls := "java/util/ArrayDeque$DeqIterator", name := "<init>", desc := "(Ljava/util/ArrayDeque;)V" } : Jvm.MethodName)) ∈ lw_all := lw_g (lw_at lw_m9 167 rfl) rfl
theorem q2566 : (Jvm.Cond.castable "java/util/ArrayDeque" "java/lang/Object") ∈ lw_tbl := lw_at lw_m11 119 rfl
theorem in_J20 : ∀ w ∈ wsJ200, w ∈ lw_all := lw_in wsJ200 [543, 545, 547] (by decide +kernel) (by decide +kernel)

/-! java/lang/IllegalStateException -/
set_option maxRecDepth 100000
def RJ21 : String := "java/lang/IllegalStateException"
def TJ21 : u_T := fun k => match k with
  | 0 => ("java/lang/Throwable", "cause", "Ljava/lang/Throwable;", false)
  | 1 => ("java/lang/Throwable", "stackTrace", "[Ljava/lang/StackTraceElement;", false)
  | 2 => ("java/lang/Throwable", "suppressedExceptions", "Ljava/util/List;", false)
  | 3 => ("java/lang/Throwable", "detailMessage", "Ljava/lang/String;", false)
  | 4 => ("java/lang/Throwable", "backtrace", "Ljava/lang/Object;", false)
  | _ => ("java/lang/Throwable", "depth", "I", false)
def tyJ21 : Nat → FieldType := fun k => match k with
  | 0 => .object "java/lang/Throwable"
  | 1 => .array (.object "java/lang/StackTraceElement")
  | 2 => .object "java/util/List"
  | 3 => .object "java/lang/String"
  | 4 => .object "java/lang/Object"
  | _ => .int
abbrev wsJ210 : List Cond := u_ws RJ21 TJ21 6
theorem nmJ21 : ∀ a, a < 6 → ∀ b, b < 6 → a ≠ b → (TJ21 a).2.1 ≠ (TJ21 b).2.1 := by decide +kernel
theorem tyJ21_ok : ∀ k, k < 6 → parseFieldDescriptor (TJ21 k).2.2.1 = some (tyJ21 k) := by decide +kernel
abbrev cJ21_init : ByteArray := prog_31_method_1_code
def yJ21_init : MethodName := ⟨RJ21, "<init>", "()V"⟩
theorem dJ21_init_0 : decode cJ21_init 0 = .ok (.aload_n 0, 1) := by decide +kernel
theorem dJ21_init_1 : decode cJ21_init 1 = .ok (.invokespecial 1, 3) := by decide +kernel
theorem dJ21_init_4 : decode cJ21_init 4 = .ok (.return_, 1) := by decide +kernel
abbrev cJ21_init_2 : ByteArray := prog_31_method_2_code
def yJ21_init_2 : MethodName := ⟨RJ21, "<init>", "(Ljava/lang/String;)V"⟩
def dkwJ21_init_2_0 : List UInt8 := [42, 43, 183, 0, 7, 177]
abbrev dktJ21_init_2_0 : List UInt8 := dkwJ21_init_2_0 ++ []
theorem dksJ21_init_2_0 : cJ21_init_2.data.toList.drop 0 = dktJ21_init_2_0 := by decide +kernel
theorem dJ21_init_2_0 : decode cJ21_init_2 0 = .ok (.aload_n 0, 1) := dk_42 (dk_at dksJ21_init_2_0 0 rfl rfl)
theorem dJ21_init_2_1 : decode cJ21_init_2 1 = .ok (.aload_n 1, 1) := dk_43 (dk_at dksJ21_init_2_0 1 rfl rfl)
theorem dJ21_init_2_2 : decode cJ21_init_2 2 = .ok (.invokespecial 7, 3) := dk_183 0 7 (dk_at dksJ21_init_2_0 2 rfl rfl)
theorem dJ21_init_2_5 : decode cJ21_init_2 5 = .ok (.return_, 1) := dk_177 (dk_at dksJ21_init_2_0 5 rfl rfl)
theorem q75 : (Jvm.Cond.initialized "java/lang/IllegalStateException") ∈ lw_all := lw_g (lw_at lw_m1 28 rfl) rfl
theorem q192 : (Jvm.Cond.selects "java/lang/IllegalStateException" ({ cls := "java/lang/Throwable", name := "fillInStackTrace", desc := "()Ljava/lang/Throwable;" } : Jvm.MethodName) ({ cls := "java/lang/Throwable", name := "fillInStackTrace", desc := "()Ljava/lang/Throwable;" } : Jvm.MethodName)) ∈ lw_all := lw_g (lw_at lw_m1 145 rfl) rfl
theorem q812 : (Jvm.Cond.selects "java/lang/IllegalStateException" ({ cls := "java/lang/Throwable", name := "toString", desc := "()Ljava/lang/String;" } : Jvm.MethodName) ({ cls := "java/lang/Throwable", name := "toString", desc := "()Ljava/lang/String;" } : Jvm.MethodName)) ∈ lw_all := lw_g (lw_at lw_m4 45 rfl) rfl
theorem q840 : (Jvm.Cond.selects "java/lang/IllegalStateException" ({ cls := "java/lang/Object", name := "getClass", desc := "()Ljava/lang/Class;" } : Jvm.MethodName) ({ cls := "java/lang/Object", name := "getClass", desc := "()Ljava/lang/Class;" } : Jvm.MethodName)) ∈ lw_all := lw_g (lw_at lw_m4 73 rfl) rfl
theorem q866 : (Jvm.Cond.selects "java/lang/IllegalStateException" ({ cls := "java/lang/Throwable", name := "getLocalizedMessage", desc := "()Ljava/lang/String;" } : Jvm.MethodName) ({ cls := "java/lang/Throwable", name := "getLocalizedMessage", desc := "()Ljava/lang/String;" } : Jvm.MethodName)) ∈ lw_all := lw_g (lw_at lw_m4 99 rfl) rfl
theorem q878 : (Jvm.Cond.selects "java/lang/IllegalStateException" ({ cls := "java/lang/Throwable", name := "getMessage", desc := "()Ljava/lang/String;" } : Jvm.MethodName) ({ cls := "java/lang/Throwable", name := "getMessage", desc := "()Ljava/lang/String;" } : Jvm.MethodName)) ∈ lw_all := lw_g (lw_at lw_m4 111 rfl) rfl
theorem q1144 : (Jvm.Cond.instantiable "java/lang/IllegalStateException" (6 : Nat)) ∈ lw_all := lw_g (lw_at lw_m5 137 rfl) rfl
theorem q1145 : (Jvm.Cond.castable "java/lang/IllegalStateException" "java/lang/IllegalStateException") ∈ lw_tbl := lw_at lw_m5 138 rfl
theorem q1146 : (Jvm.Cond.selects "java/lang/IllegalStateException" ({ cls := "java/lang/Throwable", name := "fillInStackTrace", desc := "(I)Ljava/lang/Throwable;" } : Jvm.MethodName) ({ cls := "java/lang/Throwable", name := "fillInStackTrace", desc := "(I)Ljava/lang/Throwable;" } : Jvm.MethodName)) ∈ lw_all := lw_g (lw_at lw_m5 139 rfl) rfl
theorem q1147 : (Jvm.Cond.lays "java/lang/IllegalStateException" "java/lang/Throwable" "cause" "Ljava/lang/Throwable;") ∈ lw_all := lw_g (lw_at lw_m5 140 rfl) rfl
theorem q1148 : (Jvm.Cond.lays "java/lang/IllegalStateException" "java/lang/Throwable" "stackTrace" "[Ljava/lang/StackTraceElement;") ∈ lw_all := lw_g (lw_at lw_m5 141 rfl) rfl
theorem q1149 : (Jvm.Cond.lays "java/lang/IllegalStateException" "java/lang/Throwable" "suppressedExceptions" "Ljava/util/List;") ∈ lw_all := lw_g (lw_at lw_m5 142 rfl) rfl
theorem q1150 : (Jvm.Cond.lays "java/lang/IllegalStateException" "java/lang/Throwable" "detailMessage" "Ljava/lang/String;") ∈ lw_all := lw_g (lw_at lw_m5 143 rfl) rfl
theorem q1151 : (Jvm.Cond.lays "java/lang/IllegalStateException" "java/lang/Throwable" "backtrace" "Ljava/lang/Object;") ∈ lw_all := lw_g (lw_at lw_m5 144 rfl) rfl
theorem q1153 : (Jvm.Cond.instanceMethod ({ cls := "java/lang/IllegalStateException", name := "<init>", desc := "()V" } : Jvm.MethodName)) ∈ lw_all := lw_g (lw_at lw_m5 146 rfl) rfl
theorem q1154 : (Jvm.Cond.code ({ cls := "java/lang/IllegalStateException", name := "<init>", desc := "()V" } : Jvm.MethodName) prog_31_method_1_code (1 : Nat) (Option.none : Option Jvm.ClassFile.FieldType)) ∈ lw_all := lw_g (lw_at lw_m5 147 rfl) rfl
theorem q1155 : (Jvm.Cond.methodLink "java/lang/IllegalStateException" (1 : Nat) ({ cls := "java/lang/RuntimeException", name := "<init>", desc := "()V" } : Jvm.MethodName)) ∈ lw_all := lw_g (lw_at lw_m5 148 rfl) rfl
theorem q1156 : (Jvm.Cond.lays "java/lang/IllegalStateException" "java/lang/Throwable" "depth" "I") ∈ lw_all := lw_g (lw_at lw_m5 149 rfl) rfl
theorem q1157 : (Jvm.Cond.superclass "java/lang/IllegalStateException" "java/lang/RuntimeException") ∈ lw_all := lw_g (lw_at lw_m5 150 rfl) rfl
theorem q1308 : (Jvm.Cond.instanceMethod ({ cls := "java/lang/IllegalStateException", name := "<init>", desc := "(Ljava/lang/String;)V" } : Jvm.MethodName)) ∈ lw_all := lw_g (lw_at lw_m6 61 rfl) rfl
theorem q1309 : (Jvm.Cond.code ({ cls := "java/lang/IllegalStateException", name := "<init>", desc := "(Ljava/lang/String;)V" } : Jvm.MethodName) prog_31_method_2_code (2 : Nat) (Option.none : Option Jvm.ClassFile.FieldType)) ∈ lw_all := lw_g (lw_at lw_m6 62 rfl) rfl
theorem q1310 : (Jvm.Cond.methodLink "java/lang/IllegalStateException" (7 : Nat) ({ cls := "java/lang/RuntimeException", name := "<init>", desc := "(Ljava/lang/String;)V" } : Jvm.MethodName)) ∈ lw_all := lw_g (lw_at lw_m6 63 rfl) rfl
theorem q2569 : (Jvm.Cond.castable "java/lang/IllegalStateException" "java/lang/Object") ∈ lw_tbl := lw_at lw_m11 122 rfl
theorem in_J21 : ∀ w ∈ wsJ210, w ∈ lw_all := lw_in wsJ210 [1147, 1148, 1149, 1150, 1151, 1156] (by decide +kernel) (by decide +kernel)

/-! java/lang/IndexOutOfBoundsException -/
set_option maxRecDepth 100000
def RJ22 : String := "java/lang/IndexOutOfBoundsException"
def TJ22 : u_T := fun k => match k with
  | 0 => ("java/lang/Throwable", "cause", "Ljava/lang/Throwable;", false)
  | 1 => ("java/lang/Throwable", "stackTrace", "[Ljava/lang/StackTraceElement;", false)
  | 2 => ("java/lang/Throwable", "suppressedExceptions", "Ljava/util/List;", false)
  | 3 => ("java/lang/Throwable", "detailMessage", "Ljava/lang/String;", false)
  | 4 => ("java/lang/Throwable", "backtrace", "Ljava/lang/Object;", false)
  | _ => ("java/lang/Throwable", "depth", "I", false)
def tyJ22 : Nat → FieldType := fun k => match k with
  | 0 => .object "java/lang/Throwable"
  | 1 => .array (.object "java/lang/StackTraceElement")
  | 2 => .object "java/util/List"
  | 3 => .object "java/lang/String"
  | 4 => .object "java/lang/Object"
  | _ => .int
abbrev wsJ220 : List Cond := u_ws RJ22 TJ22 6
theorem nmJ22 : ∀ a, a < 6 → ∀ b, b < 6 → a ≠ b → (TJ22 a).2.1 ≠ (TJ22 b).2.1 := by decide +kernel
theorem tyJ22_ok : ∀ k, k < 6 → parseFieldDescriptor (TJ22 k).2.2.1 = some (tyJ22 k) := by decide +kernel
abbrev cJ22_init : ByteArray := prog_32_method_2_code
def yJ22_init : MethodName := ⟨RJ22, "<init>", "(Ljava/lang/String;)V"⟩
def dkwJ22_init_0 : List UInt8 := [42, 43, 183, 0, 7, 177]
abbrev dktJ22_init_0 : List UInt8 := dkwJ22_init_0 ++ []
theorem dksJ22_init_0 : cJ22_init.data.toList.drop 0 = dktJ22_init_0 := by decide +kernel
theorem dJ22_init_0 : decode cJ22_init 0 = .ok (.aload_n 0, 1) := dk_42 (dk_at dksJ22_init_0 0 rfl rfl)
theorem dJ22_init_1 : decode cJ22_init 1 = .ok (.aload_n 1, 1) := dk_43 (dk_at dksJ22_init_0 1 rfl rfl)
theorem dJ22_init_2 : decode cJ22_init 2 = .ok (.invokespecial 7, 3) := dk_183 0 7 (dk_at dksJ22_init_0 2 rfl rfl)
theorem dJ22_init_5 : decode cJ22_init 5 = .ok (.return_, 1) := dk_177 (dk_at dksJ22_init_0 5 rfl rfl)
abbrev cJ22_init_2 : ByteArray := prog_32_method_1_code
def yJ22_init_2 : MethodName := ⟨RJ22, "<init>", "()V"⟩
theorem dJ22_init_2_0 : decode cJ22_init_2 0 = .ok (.aload_n 0, 1) := by decide +kernel
theorem dJ22_init_2_1 : decode cJ22_init_2 1 = .ok (.invokespecial 1, 3) := by decide +kernel
theorem dJ22_init_2_4 : decode cJ22_init_2 4 = .ok (.return_, 1) := by decide +kernel
theorem q76 : (Jvm.Cond.initialized "java/lang/IndexOutOfBoundsException") ∈ lw_all := lw_g (lw_at lw_m1 29 rfl) rfl
theorem q193 : (Jvm.Cond.selects "java/lang/IndexOutOfBoundsException" ({ cls := "java/lang/Throwable", name := "fillInStackTrace", desc := "()Ljava/lang/Throwable;" } : Jvm.MethodName) ({ cls := "java/lang/Throwable", name := "fillInStackTrace", desc := "()Ljava/lang/Throwable;" } : Jvm.MethodName)) ∈ lw_all := lw_g (lw_at lw_m1 146 rfl) rfl
theorem q756 : (Jvm.Cond.instantiable "java/lang/IndexOutOfBoundsException" (6 : Nat)) ∈ lw_all := lw_g (lw_at lw_m3 229 rfl) rfl
theorem q757 : (Jvm.Cond.castable "java/lang/IndexOutOfBoundsException" "java/lang/IndexOutOfBoundsException") ∈ lw_tbl := lw_at lw_m3 230 rfl
theorem q758 : (Jvm.Cond.selects "java/lang/IndexOutOfBoundsException" ({ cls := "java/lang/Throwable", name := "fillInStackTrace", desc := "(I)Ljava/lang/Throwable;" } : Jvm.MethodName) ({ cls := "java/lang/Throwable", name := "fillInStackTrace", desc := "(I)Ljava/lang/Throwable;" } : Jvm.MethodName)) ∈ lw_all := lw_g (lw_at lw_m3 231 rfl) rfl
theorem q759 : (Jvm.Cond.lays "java/lang/IndexOutOfBoundsException" "java/lang/Throwable" "cause" "Ljava/lang/Throwable;") ∈ lw_all := lw_g (lw_at lw_m3 232 rfl) rfl
theorem q760 : (Jvm.Cond.lays "java/lang/IndexOutOfBoundsException" "java/lang/Throwable" "stackTrace" "[Ljava/lang/StackTraceElement;") ∈ lw_all := lw_g (lw_at lw_m3 233 rfl) rfl
theorem q761 : (Jvm.Cond.lays "java/lang/IndexOutOfBoundsException" "java/lang/Throwable" "suppressedExceptions" "Ljava/util/List;") ∈ lw_all := lw_g (lw_at lw_m3 234 rfl) rfl
theorem q762 : (Jvm.Cond.lays "java/lang/IndexOutOfBoundsException" "java/lang/Throwable" "detailMessage" "Ljava/lang/String;") ∈ lw_all := lw_g (lw_at lw_m3 235 rfl) rfl
theorem q763 : (Jvm.Cond.lays "java/lang/IndexOutOfBoundsException" "java/lang/Throwable" "backtrace" "Ljava/lang/Object;") ∈ lw_all := lw_g (lw_at lw_m3 236 rfl) rfl
theorem q776 : (Jvm.Cond.instanceMethod ({ cls := "java/lang/IndexOutOfBoundsException", name := "<init>", desc := "(Ljava/lang/String;)V" } : Jvm.MethodName)) ∈ lw_all := lw_g (lw_at lw_m4 9 rfl) rfl
theorem q777 : (Jvm.Cond.code ({ cls := "java/lang/IndexOutOfBoundsException", name := "<init>", desc := "(Ljava/lang/String;)V" } : Jvm.MethodName) prog_32_method_2_code (2 : Nat) (Option.none : Option Jvm.ClassFile.FieldType)) ∈ lw_all := lw_g (lw_at lw_m4 10 rfl) rfl
theorem q778 : (Jvm.Cond.methodLink "java/lang/IndexOutOfBoundsException" (7 : Nat) ({ cls := "java/lang/RuntimeException", name := "<init>", desc := "(Ljava/lang/String;)V" } : Jvm.MethodName)) ∈ lw_all := lw_g (lw_at lw_m4 11 rfl) rfl
theorem q779 : (Jvm.Cond.lays "java/lang/IndexOutOfBoundsException" "java/lang/Throwable" "depth" "I") ∈ lw_all := lw_g (lw_at lw_m4 12 rfl) rfl
theorem q780 : (Jvm.Cond.superclass "java/lang/IndexOutOfBoundsException" "java/lang/RuntimeException") ∈ lw_all := lw_g (lw_at lw_m4 13 rfl) rfl
theorem q813 : (Jvm.Cond.selects "java/lang/IndexOutOfBoundsException" ({ cls := "java/lang/Throwable", name := "toString", desc := "()Ljava/lang/String;" } : Jvm.MethodName) ({ cls := "java/lang/Throwable", name := "toString", desc := "()Ljava/lang/String;" } : Jvm.MethodName)) ∈ lw_all := lw_g (lw_at lw_m4 46 rfl) rfl
theorem q841 : (Jvm.Cond.selects "java/lang/IndexOutOfBoundsException" ({ cls := "java/lang/Object", name := "getClass", desc := "()Ljava/lang/Class;" } : Jvm.MethodName) ({ cls := "java/lang/Object", name := "getClass", desc := "()Ljava/lang/Class;" } : Jvm.MethodName)) ∈ lw_all := lw_g (lw_at lw_m4 74 rfl) rfl
theorem q867 : (Jvm.Cond.selects "java/lang/IndexOutOfBoundsException" ({ cls := "java/lang/Throwable", name := "getLocalizedMessage", desc := "()Ljava/lang/String;" } : Jvm.MethodName) ({ cls := "java/lang/Throwable", name := "getLocalizedMessage", desc := "()Ljava/lang/String;" } : Jvm.MethodName)) ∈ lw_all := lw_g (lw_at lw_m4 100 rfl) rfl
theorem q879 : (Jvm.Cond.selects "java/lang/IndexOutOfBoundsException" ({ cls := "java/lang/Throwable", name := "getMessage", desc := "()Ljava/lang/String;" } : Jvm.MethodName) ({ cls := "java/lang/Throwable", name := "getMessage", desc := "()Ljava/lang/String;" } : Jvm.MethodName)) ∈ lw_all := lw_g (lw_at lw_m4 112 rfl) rfl
theorem q1174 : (Jvm.Cond.declares ({ cls := "java/lang/IndexOutOfBoundsException", name := "<init>", desc := "()V" } : Jvm.MethodName)) ∈ lw_tbl := lw_at lw_m5 167 rfl
theorem q1175 : (Jvm.Cond.declares ({ cls := "java/lang/IndexOutOfBoundsException", name := "<init>", desc := "(Ljava/lang/String;)V" } : Jvm.MethodName)) ∈ lw_tbl := lw_at lw_m5 168 rfl
theorem q1190 : (Jvm.Cond.instanceMethod ({ cls := "java/lang/IndexOutOfBoundsException", name := "<init>", desc := "()V" } : Jvm.MethodName)) ∈ lw_all := lw_g (lw_at lw_m5 183 rfl) rfl
theorem q1191 : (Jvm.Cond.code ({ cls := "java/lang/IndexOutOfBoundsException", name := "<init>", desc := "()V" } : Jvm.MethodName) prog_32_method_1_code (1 : Nat) (Option.none : Option Jvm.ClassFile.FieldType)) ∈ lw_all := lw_g (lw_at lw_m5 184 rfl) rfl
theorem q1192 : (Jvm.Cond.methodLink "java/lang/IndexOutOfBoundsException" (1 : Nat) ({ cls := "java/lang/RuntimeException", name := "<init>", desc := "()V" } : Jvm.MethodName)) ∈ lw_all := lw_g (lw_at lw_m5 185 rfl) rfl
theorem q2571 : (Jvm.Cond.castable "java/lang/IndexOutOfBoundsException" "java/lang/Object") ∈ lw_tbl := lw_at lw_m11 124 rfl
theorem in_J22 : ∀ w ∈ wsJ220, w ∈ lw_all := lw_in wsJ220 [759, 760, 761, 762, 763, 779] (by decide +kernel) (by decide +kernel)

theorem q77 : (Jvm.Cond.initialized "java/lang/ArrayIndexOutOfBoundsException") ∈ lw_all := lw_g (lw_at lw_m1 30 rfl) rfl
theorem q191 : (Jvm.Cond.selects "java/lang/ArrayIndexOutOfBoundsException" ({ cls := "java/lang/Throwable", name := "fillInStackTrace", desc := "()Ljava/lang/Throwable;" } : Jvm.MethodName) ({ cls := "java/lang/Throwable", name := "fillInStackTrace", desc := "()Ljava/lang/Throwable;" } : Jvm.MethodName)) ∈ lw_all := lw_g (lw_at lw_m1 144 rfl) rfl
theorem q810 : (Jvm.Cond.selects "java/lang/ArrayIndexOutOfBoundsException" ({ cls := "java/lang/Throwable", name := "toString", desc := "()Ljava/lang/String;" } : Jvm.MethodName) ({ cls := "java/lang/Throwable", name := "toString", desc := "()Ljava/lang/String;" } : Jvm.MethodName)) ∈ lw_all := lw_g (lw_at lw_m4 43 rfl) rfl
theorem q838 : (Jvm.Cond.selects "java/lang/ArrayIndexOutOfBoundsException" ({ cls := "java/lang/Object", name := "getClass", desc := "()Ljava/lang/Class;" } : Jvm.MethodName) ({ cls := "java/lang/Object", name := "getClass", desc := "()Ljava/lang/Class;" } : Jvm.MethodName)) ∈ lw_all := lw_g (lw_at lw_m4 71 rfl) rfl
theorem q864 : (Jvm.Cond.selects "java/lang/ArrayIndexOutOfBoundsException" ({ cls := "java/lang/Throwable", name := "getLocalizedMessage", desc := "()Ljava/lang/String;" } : Jvm.MethodName) ({ cls := "java/lang/Throwable", name := "getLocalizedMessage", desc := "()Ljava/lang/String;" } : Jvm.MethodName)) ∈ lw_all := lw_g (lw_at lw_m4 97 rfl) rfl
theorem q876 : (Jvm.Cond.selects "java/lang/ArrayIndexOutOfBoundsException" ({ cls := "java/lang/Throwable", name := "getMessage", desc := "()Ljava/lang/String;" } : Jvm.MethodName) ({ cls := "java/lang/Throwable", name := "getMessage", desc := "()Ljava/lang/String;" } : Jvm.MethodName)) ∈ lw_all := lw_g (lw_at lw_m4 109 rfl) rfl
theorem q1162 : (Jvm.Cond.instantiable "java/lang/ArrayIndexOutOfBoundsException" (6 : Nat)) ∈ lw_all := lw_g (lw_at lw_m5 155 rfl) rfl
theorem q1163 : (Jvm.Cond.instanceMethod ({ cls := "java/lang/ArrayIndexOutOfBoundsException", name := "<init>", desc := "(Ljava/lang/String;)V" } : Jvm.MethodName)) ∈ lw_all := lw_g (lw_at lw_m5 156 rfl) rfl
theorem q1164 : (Jvm.Cond.code ({ cls := "java/lang/ArrayIndexOutOfBoundsException", name := "<init>", desc := "(Ljava/lang/String;)V" } : Jvm.MethodName) prog_24_method_2_code (2 : Nat) (Option.none : Option Jvm.ClassFile.FieldType)) ∈ lw_all := lw_g (lw_at lw_m5 157 rfl) rfl
theorem q1165 : (Jvm.Cond.methodLink "java/lang/ArrayIndexOutOfBoundsException" (7 : Nat) ({ cls := "java/lang/IndexOutOfBoundsException", name := "<init>", desc := "(Ljava/lang/String;)V" } : Jvm.MethodName)) ∈ lw_all := lw_g (lw_at lw_m5 158 rfl) rfl
theorem q1166 : (Jvm.Cond.lays "java/lang/ArrayIndexOutOfBoundsException" "java/lang/Throwable" "backtrace" "Ljava/lang/Object;") ∈ lw_all := lw_g (lw_at lw_m5 159 rfl) rfl
theorem q1167 : (Jvm.Cond.lays "java/lang/ArrayIndexOutOfBoundsException" "java/lang/Throwable" "detailMessage" "Ljava/lang/String;") ∈ lw_all := lw_g (lw_at lw_m5 160 rfl) rfl
theorem q1168 : (Jvm.Cond.lays "java/lang/ArrayIndexOutOfBoundsException" "java/lang/Throwable" "cause" "Ljava/lang/Throwable;") ∈ lw_all := lw_g (lw_at lw_m5 161 rfl) rfl
theorem q1169 : (Jvm.Cond.lays "java/lang/ArrayIndexOutOfBoundsException" "java/lang/Throwable" "stackTrace" "[Ljava/lang/StackTraceElement;") ∈ lw_all := lw_g (lw_at lw_m5 162 rfl) rfl
theorem q1170 : (Jvm.Cond.lays "java/lang/ArrayIndexOutOfBoundsException" "java/lang/Throwable" "depth" "I") ∈ lw_all := lw_g (lw_at lw_m5 163 rfl) rfl
theorem q1171 : (Jvm.Cond.lays "java/lang/ArrayIndexOutOfBoundsException" "java/lang/Throwable" "suppressedExceptions" "Ljava/util/List;") ∈ lw_all := lw_g (lw_at lw_m5 164 rfl) rfl
theorem q1172 : (Jvm.Cond.superclass "java/lang/ArrayIndexOutOfBoundsException" "java/lang/IndexOutOfBoundsException") ∈ lw_all := lw_g (lw_at lw_m5 165 rfl) rfl
theorem q1173 : (Jvm.Cond.castable "java/lang/ArrayIndexOutOfBoundsException" "java/lang/ArrayIndexOutOfBoundsException") ∈ lw_tbl := lw_at lw_m5 166 rfl
theorem q1176 : (Jvm.Cond.selects "java/lang/ArrayIndexOutOfBoundsException" ({ cls := "java/lang/Throwable", name := "fillInStackTrace", desc := "(I)Ljava/lang/Throwable;" } : Jvm.MethodName) ({ cls := "java/lang/Throwable", name := "fillInStackTrace", desc := "(I)Ljava/lang/Throwable;" } : Jvm.MethodName)) ∈ lw_all := lw_g (lw_at lw_m5 169 rfl) rfl
theorem q2551 : (Jvm.Cond.castable "java/lang/ArrayIndexOutOfBoundsException" "java/lang/IndexOutOfBoundsException") ∈ lw_tbl := lw_at lw_m11 104 rfl
theorem q2570 : (Jvm.Cond.castable "java/lang/ArrayIndexOutOfBoundsException" "java/lang/Object") ∈ lw_tbl := lw_at lw_m11 123 rfl

/-! java/lang/Record -/
set_option maxRecDepth 100000
def RJ24 : String := "java/lang/Record"
abbrev cJ24_init : ByteArray := prog_38_method_1_code
def yJ24_init : MethodName := ⟨RJ24, "<init>", "()V"⟩
theorem dJ24_init_0 : decode cJ24_init 0 = .ok (.aload_n 0, 1) := by decide +kernel
theorem dJ24_init_1 : decode cJ24_init 1 = .ok (.invokespecial 1, 3) := by decide +kernel
theorem dJ24_init_4 : decode cJ24_init 4 = .ok (.return_, 1) := by decide +kernel
theorem q78 : (Jvm.Cond.initialized "java/lang/Record") ∈ lw_all := lw_g (lw_at lw_m1 31 rfl) rfl
theorem q1198 : (Jvm.Cond.instanceMethod ({ cls := "java/lang/Record", name := "<init>", desc := "()V" } : Jvm.MethodName)) ∈ lw_all := lw_g (lw_at lw_m5 191 rfl) rfl
theorem q1199 : (Jvm.Cond.code ({ cls := "java/lang/Record", name := "<init>", desc := "()V" } : Jvm.MethodName) prog_38_method_1_code (1 : Nat) (Option.none : Option Jvm.ClassFile.FieldType)) ∈ lw_all := lw_g (lw_at lw_m5 192 rfl) rfl
theorem q1200 : (Jvm.Cond.methodLink "java/lang/Record" (1 : Nat) ({ cls := "java/lang/Object", name := "<init>", desc := "()V" } : Jvm.MethodName)) ∈ lw_all := lw_g (lw_at lw_m5 193 rfl) rfl

/-! java/lang/UnsupportedOperationException -/
set_option maxRecDepth 100000
def RJ25 : String := "java/lang/UnsupportedOperationException"
def TJ25 : u_T := fun k => match k with
  | 0 => ("java/lang/Throwable", "cause", "Ljava/lang/Throwable;", false)
  | 1 => ("java/lang/Throwable", "stackTrace", "[Ljava/lang/StackTraceElement;", false)
  | 2 => ("java/lang/Throwable", "suppressedExceptions", "Ljava/util/List;", false)
  | 3 => ("java/lang/Throwable", "detailMessage", "Ljava/lang/String;", false)
  | 4 => ("java/lang/Throwable", "backtrace", "Ljava/lang/Object;", false)
  | _ => ("java/lang/Throwable", "depth", "I", false)
def tyJ25 : Nat → FieldType := fun k => match k with
  | 0 => .object "java/lang/Throwable"
  | 1 => .array (.object "java/lang/StackTraceElement")
  | 2 => .object "java/util/List"
  | 3 => .object "java/lang/String"
  | 4 => .object "java/lang/Object"
  | _ => .int
abbrev wsJ250 : List Cond := u_ws RJ25 TJ25 6
theorem nmJ25 : ∀ a, a < 6 → ∀ b, b < 6 → a ≠ b → (TJ25 a).2.1 ≠ (TJ25 b).2.1 := by decide +kernel
theorem tyJ25_ok : ∀ k, k < 6 → parseFieldDescriptor (TJ25 k).2.2.1 = some (tyJ25 k) := by decide +kernel
abbrev cJ25_init : ByteArray := prog_46_method_1_code
def yJ25_init : MethodName := ⟨RJ25, "<init>", "()V"⟩
theorem dJ25_init_0 : decode cJ25_init 0 = .ok (.aload_n 0, 1) := by decide +kernel
theorem dJ25_init_1 : decode cJ25_init 1 = .ok (.invokespecial 1, 3) := by decide +kernel
theorem dJ25_init_4 : decode cJ25_init 4 = .ok (.return_, 1) := by decide +kernel
abbrev cJ25_init_2 : ByteArray := prog_46_method_2_code
def yJ25_init_2 : MethodName := ⟨RJ25, "<init>", "(Ljava/lang/String;)V"⟩
def dkwJ25_init_2_0 : List UInt8 := [42, 43, 183, 0, 7, 177]
abbrev dktJ25_init_2_0 : List UInt8 := dkwJ25_init_2_0 ++ []
theorem dksJ25_init_2_0 : cJ25_init_2.data.toList.drop 0 = dktJ25_init_2_0 := by decide +kernel
theorem dJ25_init_2_0 : decode cJ25_init_2 0 = .ok (.aload_n 0, 1) := dk_42 (dk_at dksJ25_init_2_0 0 rfl rfl)
theorem dJ25_init_2_1 : decode cJ25_init_2 1 = .ok (.aload_n 1, 1) := dk_43 (dk_at dksJ25_init_2_0 1 rfl rfl)
theorem dJ25_init_2_2 : decode cJ25_init_2 2 = .ok (.invokespecial 7, 3) := dk_183 0 7 (dk_at dksJ25_init_2_0 2 rfl rfl)
theorem dJ25_init_2_5 : decode cJ25_init_2 5 = .ok (.return_, 1) := dk_177 (dk_at dksJ25_init_2_0 5 rfl rfl)
theorem q81 : (Jvm.Cond.initialized "java/lang/UnsupportedOperationException") ∈ lw_all := lw_g (lw_at lw_m1 34 rfl) rfl
theorem q194 : (Jvm.Cond.selects "java/lang/UnsupportedOperationException" ({ cls := "java/lang/Throwable", name := "fillInStackTrace", desc := "()Ljava/lang/Throwable;" } : Jvm.MethodName) ({ cls := "java/lang/Throwable", name := "fillInStackTrace", desc := "()Ljava/lang/Throwable;" } : Jvm.MethodName)) ∈ lw_all := lw_g (lw_at lw_m1 147 rfl) rfl
theorem q814 : (Jvm.Cond.selects "java/lang/UnsupportedOperationException" ({ cls := "java/lang/Throwable", name := "toString", desc := "()Ljava/lang/String;" } : Jvm.MethodName) ({ cls := "java/lang/Throwable", name := "toString", desc := "()Ljava/lang/String;" } : Jvm.MethodName)) ∈ lw_all := lw_g (lw_at lw_m4 47 rfl) rfl
theorem q844 : (Jvm.Cond.selects "java/lang/UnsupportedOperationException" ({ cls := "java/lang/Object", name := "getClass", desc := "()Ljava/lang/Class;" } : Jvm.MethodName) ({ cls := "java/lang/Object", name := "getClass", desc := "()Ljava/lang/Class;" } : Jvm.MethodName)) ∈ lw_all := lw_g (lw_at lw_m4 77 rfl) rfl
theorem q868 : (Jvm.Cond.selects "java/lang/UnsupportedOperationException" ({ cls := "java/lang/Throwable", name := "getLocalizedMessage", desc := "()Ljava/lang/String;" } : Jvm.MethodName) ({ cls := "java/lang/Throwable", name := "getLocalizedMessage", desc := "()Ljava/lang/String;" } : Jvm.MethodName)) ∈ lw_all := lw_g (lw_at lw_m4 101 rfl) rfl
theorem q880 : (Jvm.Cond.selects "java/lang/UnsupportedOperationException" ({ cls := "java/lang/Throwable", name := "getMessage", desc := "()Ljava/lang/String;" } : Jvm.MethodName) ({ cls := "java/lang/Throwable", name := "getMessage", desc := "()Ljava/lang/String;" } : Jvm.MethodName)) ∈ lw_all := lw_g (lw_at lw_m4 113 rfl) rfl
theorem q1253 : (Jvm.Cond.instantiable "java/lang/UnsupportedOperationException" (6 : Nat)) ∈ lw_all := lw_g (lw_at lw_m6 6 rfl) rfl
theorem q1254 : (Jvm.Cond.castable "java/lang/UnsupportedOperationException" "java/lang/UnsupportedOperationException") ∈ lw_tbl := lw_at lw_m6 7 rfl
theorem q1255 : (Jvm.Cond.selects "java/lang/UnsupportedOperationException" ({ cls := "java/lang/Throwable", name := "fillInStackTrace", desc := "(I)Ljava/lang/Throwable;" } : Jvm.MethodName) ({ cls := "java/lang/Throwable", name := "fillInStackTrace", desc := "(I)Ljava/lang/Throwable;" } : Jvm.MethodName)) ∈ lw_all := lw_g (lw_at lw_m6 8 rfl) rfl
theorem q1256 : (Jvm.Cond.lays "java/lang/UnsupportedOperationException" "java/lang/Throwable" "cause" "Ljava/lang/Throwable;") ∈ lw_all := lw_g (lw_at lw_m6 9 rfl) rfl
theorem q1257 : (Jvm.Cond.lays "java/lang/UnsupportedOperationException" "java/lang/Throwable" "stackTrace" "[Ljava/lang/StackTraceElement;") ∈ lw_all := lw_g (lw_at lw_m6 10 rfl) rfl
theorem q1258 : (Jvm.Cond.lays "java/lang/UnsupportedOperationException" "java/lang/Throwable" "suppressedExceptions" "Ljava/util/List;") ∈ lw_all := lw_g (lw_at lw_m6 11 rfl) rfl
theorem q1259 : (Jvm.Cond.lays "java/lang/UnsupportedOperationException" "java/lang/Throwable" "detailMessage" "Ljava/lang/String;") ∈ lw_all := lw_g (lw_at lw_m6 12 rfl) rfl
theorem q1260 : (Jvm.Cond.lays "java/lang/UnsupportedOperationException" "java/lang/Throwable" "backtrace" "Ljava/lang/Object;") ∈ lw_all := lw_g (lw_at lw_m6 13 rfl) rfl
theorem q1262 : (Jvm.Cond.instanceMethod ({ cls := "java/lang/UnsupportedOperationException", name := "<init>", desc := "()V" } : Jvm.MethodName)) ∈ lw_all := lw_g (lw_at lw_m6 15 rfl) rfl
theorem q1263 : (Jvm.Cond.code ({ cls := "java/lang/UnsupportedOperationException", name := "<init>", desc := "()V" } : Jvm.MethodName) prog_46_method_1_code (1 : Nat) (Option.none : Option Jvm.ClassFile.FieldType)) ∈ lw_all := lw_g (lw_at lw_m6 16 rfl) rfl
theorem q1264 : (Jvm.Cond.methodLink "java/lang/UnsupportedOperationException" (1 : Nat) ({ cls := "java/lang/RuntimeException", name := "<init>", desc := "()V" } : Jvm.MethodName)) ∈ lw_all := lw_g (lw_at lw_m6 17 rfl) rfl
theorem q1265 : (Jvm.Cond.lays "java/lang/UnsupportedOperationException" "java/lang/Throwable" "depth" "I") ∈ lw_all := lw_g (lw_at lw_m6 18 rfl) rfl
theorem q1266 : (Jvm.Cond.superclass "java/lang/UnsupportedOperationException" "java/lang/RuntimeException") ∈ lw_all := lw_g (lw_at lw_m6 19 rfl) rfl
theorem q1460 : (Jvm.Cond.instanceMethod ({ cls := "java/lang/UnsupportedOperationException", name := "<init>", desc := "(Ljava/lang/String;)V" } : Jvm.MethodName)) ∈ lw_all := lw_g (lw_at lw_m6 213 rfl) rfl
theorem q1461 : (Jvm.Cond.code ({ cls := "java/lang/UnsupportedOperationException", name := "<init>", desc := "(Ljava/lang/String;)V" } : Jvm.MethodName) prog_46_method_2_code (2 : Nat) (Option.none : Option Jvm.ClassFile.FieldType)) ∈ lw_all := lw_g (lw_at lw_m6 214 rfl) rfl
theorem q1462 : (Jvm.Cond.methodLink "java/lang/UnsupportedOperationException" (7 : Nat) ({ cls := "java/lang/RuntimeException", name := "<init>", desc := "(Ljava/lang/String;)V" } : Jvm.MethodName)) ∈ lw_all := lw_g (lw_at lw_m6 215 rfl) rfl
theorem q2574 : (Jvm.Cond.castable "java/lang/UnsupportedOperationException" "java/lang/Object") ∈ lw_tbl := lw_at lw_m11 127 rfl
theorem in_J25 : ∀ w ∈ wsJ250, w ∈ lw_all := lw_in wsJ250 [1256, 1257, 1258, 1259, 1260, 1265] (by decide +kernel) (by decide +kernel)

/-! java/util/NoSuchElementException -/
set_option maxRecDepth 100000
def RJ26 : String := "java/util/NoSuchElementException"
def TJ26 : u_T := fun k => match k with
  | 0 => ("java/lang/Throwable", "cause", "Ljava/lang/Throwable;", false)
  | 1 => ("java/lang/Throwable", "stackTrace", "[Ljava/lang/StackTraceElement;", false)
  | 2 => ("java/lang/Throwable", "suppressedExceptions", "Ljava/util/List;", false)
  | 3 => ("java/lang/Throwable", "detailMessage", "Ljava/lang/String;", false)
  | 4 => ("java/lang/Throwable", "backtrace", "Ljava/lang/Object;", false)
  | _ => ("java/lang/Throwable", "depth", "I", false)
def tyJ26 : Nat → FieldType := fun k => match k with
  | 0 => .object "java/lang/Throwable"
  | 1 => .array (.object "java/lang/StackTraceElement")
  | 2 => .object "java/util/List"
  | 3 => .object "java/lang/String"
  | 4 => .object "java/lang/Object"
  | _ => .int
abbrev wsJ260 : List Cond := u_ws RJ26 TJ26 6
theorem nmJ26 : ∀ a, a < 6 → ∀ b, b < 6 → a ≠ b → (TJ26 a).2.1 ≠ (TJ26 b).2.1 := by decide +kernel
theorem tyJ26_ok : ∀ k, k < 6 → parseFieldDescriptor (TJ26 k).2.2.1 = some (tyJ26 k) := by decide +kernel
abbrev cJ26_init : ByteArray := prog_77_method_3_code
def yJ26_init : MethodName := ⟨RJ26, "<init>", "(Ljava/lang/Throwable;)V"⟩
def dkwJ26_init_0 : List UInt8 := [42, 43, 183, 0, 10, 177]
abbrev dktJ26_init_0 : List UInt8 := dkwJ26_init_0 ++ []
theorem dksJ26_init_0 : cJ26_init.data.toList.drop 0 = dktJ26_init_0 := by decide +kernel
theorem dJ26_init_0 : decode cJ26_init 0 = .ok (.aload_n 0, 1) := dk_42 (dk_at dksJ26_init_0 0 rfl rfl)
theorem dJ26_init_1 : decode cJ26_init 1 = .ok (.aload_n 1, 1) := dk_43 (dk_at dksJ26_init_0 1 rfl rfl)
theorem dJ26_init_2 : decode cJ26_init 2 = .ok (.invokespecial 10, 3) := dk_183 0 10 (dk_at dksJ26_init_0 2 rfl rfl)
theorem dJ26_init_5 : decode cJ26_init 5 = .ok (.return_, 1) := dk_177 (dk_at dksJ26_init_0 5 rfl rfl)
abbrev cJ26_init_2 : ByteArray := prog_77_method_1_code
def yJ26_init_2 : MethodName := ⟨RJ26, "<init>", "()V"⟩
theorem dJ26_init_2_0 : decode cJ26_init_2 0 = .ok (.aload_n 0, 1) := by decide +kernel
theorem dJ26_init_2_1 : decode cJ26_init_2 1 = .ok (.invokespecial 1, 3) := by decide +kernel
theorem dJ26_init_2_4 : decode cJ26_init_2 4 = .ok (.return_, 1) := by decide +kernel
theorem q85 : (Jvm.Cond.initialized "java/util/NoSuchElementException") ∈ lw_all := lw_g (lw_at lw_m1 38 rfl) rfl
theorem q196 : (Jvm.Cond.selects "java/util/NoSuchElementException" ({ cls := "java/lang/Throwable", name := "fillInStackTrace", desc := "()Ljava/lang/Throwable;" } : Jvm.MethodName) ({ cls := "java/lang/Throwable", name := "fillInStackTrace", desc := "()Ljava/lang/Throwable;" } : Jvm.MethodName)) ∈ lw_all := lw_g (lw_at lw_m1 149 rfl) rfl
theorem q786 : (Jvm.Cond.instantiable "java/util/NoSuchElementException" (6 : Nat)) ∈ lw_all := lw_g (lw_at lw_m4 19 rfl) rfl
theorem q787 : (Jvm.Cond.castable "java/util/NoSuchElementException" "java/util/NoSuchElementException") ∈ lw_tbl := lw_at lw_m4 20 rfl
theorem q788 : (Jvm.Cond.selects "java/util/NoSuchElementException" ({ cls := "java/lang/Throwable", name := "fillInStackTrace", desc := "(I)Ljava/lang/Throwable;" } : Jvm.MethodName) ({ cls := "java/lang/Throwable", name := "fillInStackTrace", desc := "(I)Ljava/lang/Throwable;" } : Jvm.MethodName)) ∈ lw_all := lw_g (lw_at lw_m4 21 rfl) rfl
theorem q789 : (Jvm.Cond.lays "java/util/NoSuchElementException" "java/lang/Throwable" "cause" "Ljava/lang/Throwable;") ∈ lw_all := lw_g (lw_at lw_m4 22 rfl) rfl
theorem q790 : (Jvm.Cond.lays "java/util/NoSuchElementException" "java/lang/Throwable" "stackTrace" "[Ljava/lang/StackTraceElement;") ∈ lw_all := lw_g (lw_at lw_m4 23 rfl) rfl
theorem q791 : (Jvm.Cond.lays "java/util/NoSuchElementException" "java/lang/Throwable" "suppressedExceptions" "Ljava/util/List;") ∈ lw_all := lw_g (lw_at lw_m4 24 rfl) rfl
theorem q792 : (Jvm.Cond.lays "java/util/NoSuchElementException" "java/lang/Throwable" "detailMessage" "Ljava/lang/String;") ∈ lw_all := lw_g (lw_at lw_m4 25 rfl) rfl
theorem q793 : (Jvm.Cond.lays "java/util/NoSuchElementException" "java/lang/Throwable" "backtrace" "Ljava/lang/Object;") ∈ lw_all := lw_g (lw_at lw_m4 26 rfl) rfl
theorem q795 : (Jvm.Cond.instanceMethod ({ cls := "java/util/NoSuchElementException", name := "<init>", desc := "(Ljava/lang/Throwable;)V" } : Jvm.MethodName)) ∈ lw_all := lw_g (lw_at lw_m4 28 rfl) rfl
theorem q796 : (Jvm.Cond.code ({ cls := "java/util/NoSuchElementException", name := "<init>", desc := "(Ljava/lang/Throwable;)V" } : Jvm.MethodName) prog_77_method_3_code (2 : Nat) (Option.none : Option Jvm.ClassFile.FieldType)) ∈ lw_all := lw_g (lw_at lw_m4 29 rfl) rfl
theorem q797 : (Jvm.Cond.methodLink "java/util/NoSuchElementException" (10 : Nat) ({ cls := "java/lang/RuntimeException", name := "<init>", desc := "(Ljava/lang/Throwable;)V" } : Jvm.MethodName)) ∈ lw_all := lw_g (lw_at lw_m4 30 rfl) rfl
theorem q816 : (Jvm.Cond.selects "java/util/NoSuchElementException" ({ cls := "java/lang/Throwable", name := "toString", desc := "()Ljava/lang/String;" } : Jvm.MethodName) ({ cls := "java/lang/Throwable", name := "toString", desc := "()Ljava/lang/String;" } : Jvm.MethodName)) ∈ lw_all := lw_g (lw_at lw_m4 49 rfl) rfl
theorem q858 : (Jvm.Cond.selects "java/util/NoSuchElementException" ({ cls := "java/lang/Object", name := "getClass", desc := "()Ljava/lang/Class;" } : Jvm.MethodName) ({ cls := "java/lang/Object", name := "getClass", desc := "()Ljava/lang/Class;" } : Jvm.MethodName)) ∈ lw_all := lw_g (lw_at lw_m4 91 rfl) rfl
theorem q870 : (Jvm.Cond.selects "java/util/NoSuchElementException" ({ cls := "java/lang/Throwable", name := "getLocalizedMessage", desc := "()Ljava/lang/String;" } : Jvm.MethodName) ({ cls := "java/lang/Throwable", name := "getLocalizedMessage", desc := "()Ljava/lang/String;" } : Jvm.MethodName)) ∈ lw_all := lw_g (lw_at lw_m4 103 rfl) rfl
theorem q882 : (Jvm.Cond.selects "java/util/NoSuchElementException" ({ cls := "java/lang/Throwable", name := "getMessage", desc := "()Ljava/lang/String;" } : Jvm.MethodName) ({ cls := "java/lang/Throwable", name := "getMessage", desc := "()Ljava/lang/String;" } : Jvm.MethodName)) ∈ lw_all := lw_g (lw_at lw_m4 115 rfl) rfl
theorem q889 : (Jvm.Cond.lays "java/util/NoSuchElementException" "java/lang/Throwable" "depth" "I") ∈ lw_all := lw_g (lw_at lw_m4 122 rfl) rfl
theorem q890 : (Jvm.Cond.superclass "java/util/NoSuchElementException" "java/lang/RuntimeException") ∈ lw_all := lw_g (lw_at lw_m4 123 rfl) rfl
theorem q898 : (Jvm.Cond.instanceMethod ({ cls := "java/util/NoSuchElementException", name := "<init>", desc := "()V" } : Jvm.MethodName)) ∈ lw_all := lw_g (lw_at lw_m4 131 rfl) rfl
theorem q899 : (Jvm.Cond.code ({ cls := "java/util/NoSuchElementException", name := "<init>", desc := "()V" } : Jvm.MethodName) prog_77_method_1_code (1 : Nat) (Option.none : Option Jvm.ClassFile.FieldType)) ∈ lw_all := lw_g (lw_at lw_m4 132 rfl) rfl
theorem q900 : (Jvm.Cond.methodLink "java/util/NoSuchElementException" (1 : Nat) ({ cls := "java/lang/RuntimeException", name := "<init>", desc := "()V" } : Jvm.MethodName)) ∈ lw_all := lw_g (lw_at lw_m4 133 rfl) rfl
theorem q2576 : (Jvm.Cond.castable "java/util/NoSuchElementException" "java/lang/Object") ∈ lw_tbl := lw_at lw_m11 129 rfl
theorem in_J26 : ∀ w ∈ wsJ260, w ∈ lw_all := lw_in wsJ260 [789, 790, 791, 792, 793, 889] (by decide +kernel) (by decide +kernel)

theorem q86 : (Jvm.Cond.initialized "java/util/AbstractList$Itr") ∈ lw_all := lw_g (lw_at lw_m1 39 rfl) rfl
theorem q484 : (Jvm.Cond.fieldLink "java/util/AbstractList$Itr" (20 : Nat) "java/util/AbstractList" "modCount" "I") ∈ lw_all := lw_g (lw_at lw_m2 197 rfl) rfl
theorem q672 : (Jvm.Cond.instanceMethod ({ cls := "java/util/AbstractList$Itr", name := "hasNext", desc := "()Z" } : Jvm.MethodName)) ∈ lw_all := lw_g (lw_at lw_m3 145 rfl) rfl
theorem q673 : (Jvm.Cond.publicMethod ({ cls := "java/util/AbstractList$Itr", name := "hasNext", desc := "()Z" } : Jvm.MethodName)) ∈ lw_tbl := lw_at lw_m3 146 rfl
theorem q674 : (Jvm.Cond.code ({ cls := "java/util/AbstractList$Itr", name := "hasNext", desc := "()Z" } : Jvm.MethodName) prog_51_method_2_code (1 : Nat) (Option.some Jvm.ClassFile.FieldType.boolean)) ∈ lw_all := lw_g (lw_at lw_m3 147 rfl) rfl
theorem q675 : (Jvm.Cond.methodLink "java/util/AbstractList$Itr" (28 : Nat) ({ cls := "java/util/AbstractList", name := "size", desc := "()I" } : Jvm.MethodName)) ∈ lw_all := lw_g (lw_at lw_m3 148 rfl) rfl
theorem q720 : (Jvm.Cond.instanceMethod ({ cls := "java/util/AbstractList$Itr", name := "next", desc := "()Ljava/lang/Object;" } : Jvm.MethodName)) ∈ lw_all := lw_g (lw_at lw_m3 193 rfl) rfl
theorem q721 : (Jvm.Cond.publicMethod ({ cls := "java/util/AbstractList$Itr", name := "next", desc := "()Ljava/lang/Object;" } : Jvm.MethodName)) ∈ lw_tbl := lw_at lw_m3 194 rfl
theorem q722 : (Jvm.Cond.codeWith ({ cls := "java/util/AbstractList$Itr", name := "next", desc := "()Ljava/lang/Object;" } : Jvm.MethodName) prog_51_method_3_code (3 : Nat) (Option.some (Jvm.ClassFile.FieldType.object "java/lang/Object")) [((4 : Nat), (31 : Nat), (32 : Nat), (39 : Nat))]) ∈ lw_all := lw_g (lw_at lw_m3 195 rfl) rfl
theorem q723 : (Jvm.Cond.methodLink "java/util/AbstractList$Itr" (32 : Nat) ({ cls := "java/util/AbstractList$Itr", name := "checkForComodification", desc := "()V" } : Jvm.MethodName)) ∈ lw_all := lw_g (lw_at lw_m3 196 rfl) rfl
theorem q724 : (Jvm.Cond.instanceMethod ({ cls := "java/util/AbstractList$Itr", name := "checkForComodification", desc := "()V" } : Jvm.MethodName)) ∈ lw_all := lw_g (lw_at lw_m3 197 rfl) rfl
theorem q725 : (Jvm.Cond.sameMethod "java/util/AbstractList$Itr" "java/util/AbstractList$Itr" "checkForComodification" "()V") ∈ lw_all := lw_g (lw_at lw_m3 198 rfl) rfl
theorem q727 : (Jvm.Cond.code ({ cls := "java/util/AbstractList$Itr", name := "checkForComodification", desc := "()V" } : Jvm.MethodName) prog_51_method_5_code (1 : Nat) (Option.none : Option Jvm.ClassFile.FieldType)) ∈ lw_all := lw_g (lw_at lw_m3 200 rfl) rfl
theorem q728 : (Jvm.Cond.methodLink "java/util/AbstractList$Itr" (35 : Nat) ({ cls := "java/util/AbstractList", name := "get", desc := "(I)Ljava/lang/Object;" } : Jvm.MethodName)) ∈ lw_all := lw_g (lw_at lw_m3 201 rfl) rfl
theorem q785 : (Jvm.Cond.classLink "java/util/AbstractList$Itr" (41 : Nat) "java/util/NoSuchElementException") ∈ lw_all := lw_g (lw_at lw_m4 18 rfl) rfl
theorem q794 : (Jvm.Cond.methodLink "java/util/AbstractList$Itr" (43 : Nat) ({ cls := "java/util/NoSuchElementException", name := "<init>", desc := "(Ljava/lang/Throwable;)V" } : Jvm.MethodName)) ∈ lw_all := lw_g (lw_at lw_m4 27 rfl) rfl
theorem q1465 : (Jvm.Cond.instanceMethod ({ cls := "java/util/AbstractList$Itr", name := "remove", desc := "()V" } : Jvm.MethodName)) ∈ lw_all := lw_g (lw_at lw_m6 218 rfl) rfl
theorem q1466 : (Jvm.Cond.publicMethod ({ cls := "java/util/AbstractList$Itr", name := "remove", desc := "()V" } : Jvm.MethodName)) ∈ lw_tbl := lw_at lw_m6 219 rfl
theorem q1467 : (Jvm.Cond.codeWith ({ cls := "java/util/AbstractList$Itr", name := "remove", desc := "()V" } : Jvm.MethodName) prog_51_method_4_code (2 : Nat) (Option.none : Option Jvm.ClassFile.FieldType) [((19 : Nat), (68 : Nat), (71 : Nat), (39 : Nat))]) ∈ lw_all := lw_g (lw_at lw_m6 220 rfl) rfl
theorem q1468 : (Jvm.Cond.classLink "java/util/AbstractList$Itr" (46 : Nat) "java/lang/IllegalStateException") ∈ lw_all := lw_g (lw_at lw_m6 221 rfl) rfl
theorem q1469 : (Jvm.Cond.methodLink "java/util/AbstractList$Itr" (48 : Nat) ({ cls := "java/lang/IllegalStateException", name := "<init>", desc := "()V" } : Jvm.MethodName)) ∈ lw_all := lw_g (lw_at lw_m6 222 rfl) rfl
theorem q1470 : (Jvm.Cond.methodLink "java/util/AbstractList$Itr" (49 : Nat) ({ cls := "java/util/AbstractList", name := "remove", desc := "(I)Ljava/lang/Object;" } : Jvm.MethodName)) ∈ lw_all := lw_g (lw_at lw_m6 223 rfl) rfl
theorem q1489 : (Jvm.Cond.classLink "java/util/AbstractList$Itr" (52 : Nat) "java/util/ConcurrentModificationException") ∈ lw_all := lw_g (lw_at lw_m7 2 rfl) rfl
theorem q1491 : (Jvm.Cond.methodLink "java/util/AbstractList$Itr" (54 : Nat) ({ cls := "java/util/ConcurrentModificationException", name := "<init>", desc := "()V" } : Jvm.MethodName)) ∈ lw_all := lw_g (lw_at lw_m7 4 rfl) rfl
theorem q1910 : (Jvm.Cond.declares ({ cls := "java/util/AbstractList$Itr", name := "checkForComodification", desc := "()V" } : Jvm.MethodName)) ∈ lw_tbl := lw_at lw_m8 183 rfl
theorem q2608 : (Jvm.Cond.fieldLink "java/util/AbstractList$Itr" (1 : Nat) "java/util/AbstractList$Itr" "this$0" "Ljava/util/AbstractList;") ∈ lw_all := lw_g (lw_at lw_m11 161 rfl) rfl
theorem q2609 : (Jvm.Cond.fieldLink "java/util/AbstractList$Itr" (13 : Nat) "java/util/AbstractList$Itr" "cursor" "I") ∈ lw_all := lw_g (lw_at lw_m11 162 rfl) rfl
theorem q2610 : (Jvm.Cond.fieldLink "java/util/AbstractList$Itr" (17 : Nat) "java/util/AbstractList$Itr" "lastRet" "I") ∈ lw_all := lw_g (lw_at lw_m11 163 rfl) rfl
theorem q2611 : (Jvm.Cond.fieldLink "java/util/AbstractList$Itr" (25 : Nat) "java/util/AbstractList$Itr" "expectedModCount" "I") ∈ lw_all := lw_g (lw_at lw_m11 164 rfl) rfl

theorem q87 : (Jvm.Cond.initialized "java/util/AbstractList$ListItr") ∈ lw_all := lw_g (lw_at lw_m1 40 rfl) rfl
theorem q486 : (Jvm.Cond.fieldLink "java/util/AbstractList$ListItr" (45 : Nat) "java/util/AbstractList" "modCount" "I") ∈ lw_all := lw_g (lw_at lw_m2 199 rfl) rfl
theorem q669 : (Jvm.Cond.castable "java/util/AbstractList$ListItr" "java/util/Iterator") ∈ lw_tbl := lw_at lw_m3 142 rfl
theorem q670 : (Jvm.Cond.selects "java/util/AbstractList$ListItr" ({ cls := "java/util/Iterator", name := "hasNext", desc := "()Z" } : Jvm.MethodName) ({ cls := "java/util/AbstractList$Itr", name := "hasNext", desc := "()Z" } : Jvm.MethodName)) ∈ lw_all := lw_g (lw_at lw_m3 143 rfl) rfl
theorem q671 : (Jvm.Cond.unhidden "java/util/AbstractList$ListItr" "hasNext" "()Z") ∈ lw_tbl := lw_at lw_m3 144 rfl
theorem q718 : (Jvm.Cond.selects "java/util/AbstractList$ListItr" ({ cls := "java/util/Iterator", name := "next", desc := "()Ljava/lang/Object;" } : Jvm.MethodName) ({ cls := "java/util/AbstractList$Itr", name := "next", desc := "()Ljava/lang/Object;" } : Jvm.MethodName)) ∈ lw_all := lw_g (lw_at lw_m3 191 rfl) rfl
theorem q719 : (Jvm.Cond.unhidden "java/util/AbstractList$ListItr" "next" "()Ljava/lang/Object;") ∈ lw_tbl := lw_at lw_m3 192 rfl
theorem q726 : (Jvm.Cond.selects "java/util/AbstractList$ListItr" ({ cls := "java/util/AbstractList$Itr", name := "checkForComodification", desc := "()V" } : Jvm.MethodName) ({ cls := "java/util/AbstractList$Itr", name := "checkForComodification", desc := "()V" } : Jvm.MethodName)) ∈ lw_all := lw_g (lw_at lw_m3 199 rfl) rfl
theorem q845 : (Jvm.Cond.selects "java/util/AbstractList$ListItr" ({ cls := "java/lang/Object", name := "getClass", desc := "()Ljava/lang/Class;" } : Jvm.MethodName) ({ cls := "java/lang/Object", name := "getClass", desc := "()Ljava/lang/Class;" } : Jvm.MethodName)) ∈ lw_all := lw_g (lw_at lw_m4 78 rfl) rfl
theorem q1463 : (Jvm.Cond.selects "java/util/AbstractList$ListItr" ({ cls := "java/util/Iterator", name := "remove", desc := "()V" } : Jvm.MethodName) ({ cls := "java/util/AbstractList$Itr", name := "remove", desc := "()V" } : Jvm.MethodName)) ∈ lw_all := lw_g (lw_at lw_m6 216 rfl) rfl
theorem q1464 : (Jvm.Cond.unhidden "java/util/AbstractList$ListItr" "remove" "()V") ∈ lw_tbl := lw_at lw_m6 217 rfl
theorem q1891 : (Jvm.Cond.castable "java/util/AbstractList$ListItr" "java/util/ListIterator") ∈ lw_tbl := lw_at lw_m8 164 rfl
theorem q1892 : (Jvm.Cond.selects "java/util/AbstractList$ListItr" ({ cls := "java/util/ListIterator", name := "next", desc := "()Ljava/lang/Object;" } : Jvm.MethodName) ({ cls := "java/util/AbstractList$Itr", name := "next", desc := "()Ljava/lang/Object;" } : Jvm.MethodName)) ∈ lw_all := lw_g (lw_at lw_m8 165 rfl) rfl
theorem q1903 : (Jvm.Cond.selects "java/util/AbstractList$ListItr" ({ cls := "java/util/ListIterator", name := "previous", desc := "()Ljava/lang/Object;" } : Jvm.MethodName) ({ cls := "java/util/AbstractList$ListItr", name := "previous", desc := "()Ljava/lang/Object;" } : Jvm.MethodName)) ∈ lw_all := lw_g (lw_at lw_m8 176 rfl) rfl
theorem q1904 : (Jvm.Cond.unhidden "java/util/AbstractList$ListItr" "previous" "()Ljava/lang/Object;") ∈ lw_tbl := lw_at lw_m8 177 rfl
theorem q1905 : (Jvm.Cond.instanceMethod ({ cls := "java/util/AbstractList$ListItr", name := "previous", desc := "()Ljava/lang/Object;" } : Jvm.MethodName)) ∈ lw_all := lw_g (lw_at lw_m8 178 rfl) rfl
theorem q1906 : (Jvm.Cond.publicMethod ({ cls := "java/util/AbstractList$ListItr", name := "previous", desc := "()Ljava/lang/Object;" } : Jvm.MethodName)) ∈ lw_tbl := lw_at lw_m8 179 rfl
theorem q1907 : (Jvm.Cond.codeWith ({ cls := "java/util/AbstractList$ListItr", name := "previous", desc := "()Ljava/lang/Object;" } : Jvm.MethodName) prog_52_method_3_code (3 : Nat) (Option.some (Jvm.ClassFile.FieldType.object "java/lang/Object")) [((4 : Nat), (31 : Nat), (32 : Nat), (30 : Nat))]) ∈ lw_all := lw_g (lw_at lw_m8 180 rfl) rfl
theorem q1908 : (Jvm.Cond.methodLink "java/util/AbstractList$ListItr" (17 : Nat) ({ cls := "java/util/AbstractList$ListItr", name := "checkForComodification", desc := "()V" } : Jvm.MethodName)) ∈ lw_all := lw_g (lw_at lw_m8 181 rfl) rfl
theorem q1909 : (Jvm.Cond.sameMethod "java/util/AbstractList$ListItr" "java/util/AbstractList$Itr" "checkForComodification" "()V") ∈ lw_all := lw_g (lw_at lw_m8 182 rfl) rfl
theorem q1911 : (Jvm.Cond.selects "java/util/AbstractList$ListItr" ({ cls := "java/util/AbstractList$ListItr", name := "checkForComodification", desc := "()V" } : Jvm.MethodName) ({ cls := "java/util/AbstractList$Itr", name := "checkForComodification", desc := "()V" } : Jvm.MethodName)) ∈ lw_all := lw_g (lw_at lw_m8 184 rfl) rfl
theorem q1912 : (Jvm.Cond.methodLink "java/util/AbstractList$ListItr" (21 : Nat) ({ cls := "java/util/AbstractList", name := "get", desc := "(I)Ljava/lang/Object;" } : Jvm.MethodName)) ∈ lw_all := lw_g (lw_at lw_m8 185 rfl) rfl
theorem q1913 : (Jvm.Cond.classLink "java/util/AbstractList$ListItr" (32 : Nat) "java/util/NoSuchElementException") ∈ lw_all := lw_g (lw_at lw_m8 186 rfl) rfl
theorem q1914 : (Jvm.Cond.methodLink "java/util/AbstractList$ListItr" (34 : Nat) ({ cls := "java/util/NoSuchElementException", name := "<init>", desc := "(Ljava/lang/Throwable;)V" } : Jvm.MethodName)) ∈ lw_all := lw_g (lw_at lw_m8 187 rfl) rfl
theorem q1944 : (Jvm.Cond.selects "java/util/AbstractList$ListItr" ({ cls := "java/util/ListIterator", name := "set", desc := "(Ljava/lang/Object;)V" } : Jvm.MethodName) ({ cls := "java/util/AbstractList$ListItr", name := "set", desc := "(Ljava/lang/Object;)V" } : Jvm.MethodName)) ∈ lw_all := lw_g (lw_at lw_m8 217 rfl) rfl
theorem q1945 : (Jvm.Cond.unhidden "java/util/AbstractList$ListItr" "set" "(Ljava/lang/Object;)V") ∈ lw_tbl := lw_at lw_m8 218 rfl
theorem q1946 : (Jvm.Cond.instanceMethod ({ cls := "java/util/AbstractList$ListItr", name := "set", desc := "(Ljava/lang/Object;)V" } : Jvm.MethodName)) ∈ lw_all := lw_g (lw_at lw_m8 219 rfl) rfl
theorem q1947 : (Jvm.Cond.publicMethod ({ cls := "java/util/AbstractList$ListItr", name := "set", desc := "(Ljava/lang/Object;)V" } : Jvm.MethodName)) ∈ lw_tbl := lw_at lw_m8 220 rfl
theorem q1948 : (Jvm.Cond.codeWith ({ cls := "java/util/AbstractList$ListItr", name := "set", desc := "(Ljava/lang/Object;)V" } : Jvm.MethodName) prog_52_method_6_code (3 : Nat) (Option.none : Option Jvm.ClassFile.FieldType) [((19 : Nat), (43 : Nat), (46 : Nat), (30 : Nat))]) ∈ lw_all := lw_g (lw_at lw_m8 221 rfl) rfl
theorem q1949 : (Jvm.Cond.classLink "java/util/AbstractList$ListItr" (37 : Nat) "java/lang/IllegalStateException") ∈ lw_all := lw_g (lw_at lw_m8 222 rfl) rfl
theorem q1950 : (Jvm.Cond.methodLink "java/util/AbstractList$ListItr" (39 : Nat) ({ cls := "java/lang/IllegalStateException", name := "<init>", desc := "()V" } : Jvm.MethodName)) ∈ lw_all := lw_g (lw_at lw_m8 223 rfl) rfl
theorem q1951 : (Jvm.Cond.methodLink "java/util/AbstractList$ListItr" (41 : Nat) ({ cls := "java/util/AbstractList", name := "set", desc := "(ILjava/lang/Object;)Ljava/lang/Object;" } : Jvm.MethodName)) ∈ lw_all := lw_g (lw_at lw_m8 224 rfl) rfl
theorem q1957 : (Jvm.Cond.classLink "java/util/AbstractList$ListItr" (51 : Nat) "java/util/ConcurrentModificationException") ∈ lw_all := lw_g (lw_at lw_m8 230 rfl) rfl
theorem q1958 : (Jvm.Cond.methodLink "java/util/AbstractList$ListItr" (53 : Nat) ({ cls := "java/util/ConcurrentModificationException", name := "<init>", desc := "()V" } : Jvm.MethodName)) ∈ lw_all := lw_g (lw_at lw_m8 231 rfl) rfl
theorem q2577 : (Jvm.Cond.castable "java/util/AbstractList$ListItr" "java/lang/Object") ∈ lw_tbl := lw_at lw_m11 130 rfl
theorem q2607 : (Jvm.Cond.fieldLink "java/util/AbstractList$ListItr" (1 : Nat) "java/util/AbstractList$ListItr" "this$0" "Ljava/util/AbstractList;") ∈ lw_all := lw_g (lw_at lw_m11 160 rfl) rfl
theorem q2612 : (Jvm.Cond.fieldLink "java/util/AbstractList$ListItr" (13 : Nat) "java/util/AbstractList$ListItr" "cursor" "I") ∈ lw_all := lw_g (lw_at lw_m11 165 rfl) rfl
theorem q2613 : (Jvm.Cond.sameField "java/util/AbstractList$ListItr" "java/util/AbstractList$Itr" "cursor" "I") ∈ lw_all := lw_g (lw_at lw_m11 166 rfl) rfl
theorem q2615 : (Jvm.Cond.fieldLink "java/util/AbstractList$ListItr" (27 : Nat) "java/util/AbstractList$ListItr" "lastRet" "I") ∈ lw_all := lw_g (lw_at lw_m11 168 rfl) rfl
theorem q2616 : (Jvm.Cond.sameField "java/util/AbstractList$ListItr" "java/util/AbstractList$Itr" "lastRet" "I") ∈ lw_all := lw_g (lw_at lw_m11 169 rfl) rfl
theorem q2617 : (Jvm.Cond.fieldLink "java/util/AbstractList$ListItr" (48 : Nat) "java/util/AbstractList$ListItr" "expectedModCount" "I") ∈ lw_all := lw_g (lw_at lw_m11 170 rfl) rfl
theorem q2618 : (Jvm.Cond.sameField "java/util/AbstractList$ListItr" "java/util/AbstractList$Itr" "expectedModCount" "I") ∈ lw_all := lw_g (lw_at lw_m11 171 rfl) rfl

/-! java/util/ArrayList$Itr -/
set_option maxRecDepth 100000
def RJ29 : String := "java/util/ArrayList$Itr"
def TJ29 : u_T := fun k => match k with
  | 0 => ("java/util/ArrayList$Itr", "cursor", "I", false)
  | 1 => ("java/util/ArrayList$Itr", "lastRet", "I", false)
  | 2 => ("java/util/ArrayList$Itr", "expectedModCount", "I", false)
  | _ => ("java/util/ArrayList$Itr", "this$0", "Ljava/util/ArrayList;", true)
def tyJ29 : Nat → FieldType := fun k => match k with
  | 0 => .int
  | 1 => .int
  | 2 => .int
  | _ => .object "java/util/ArrayList"
abbrev wsJ290 : List Cond := u_ws RJ29 TJ29 4
theorem nmJ29 : ∀ a, a < 4 → ∀ b, b < 4 → a ≠ b → (TJ29 a).2.1 ≠ (TJ29 b).2.1 := by decide +kernel
theorem tyJ29_ok : ∀ k, k < 4 → parseFieldDescriptor (TJ29 k).2.2.1 = some (tyJ29 k) := by decide +kernel
abbrev cJ29_hasNext : ByteArray := prog_57_method_2_code
def yJ29_hasNext : MethodName := ⟨RJ29, "hasNext", "()Z"⟩
def dkwJ29_hasNext_0 : List UInt8 := [42, 180, 0, 25, 42, 180, 0, 1, 180, 0, 28, 159, 0, 7, 4, 167, 0, 4, 3, 172]
abbrev dktJ29_hasNext_0 : List UInt8 := dkwJ29_hasNext_0 ++ []
theorem dksJ29_hasNext_0 : cJ29_hasNext.data.toList.drop 0 = dktJ29_hasNext_0 := by decide +kernel
theorem dJ29_hasNext_0 : decode cJ29_hasNext 0 = .ok (.aload_n 0, 1) := dk_42 (dk_at dksJ29_hasNext_0 0 rfl rfl)
theorem dJ29_hasNext_1 : decode cJ29_hasNext 1 = .ok (.getfield 25, 3) := dk_180 0 25 (dk_at dksJ29_hasNext_0 1 rfl rfl)
theorem dJ29_hasNext_4 : decode cJ29_hasNext 4 = .ok (.aload_n 0, 1) := dk_42 (dk_at dksJ29_hasNext_0 4 rfl rfl)
theorem dJ29_hasNext_5 : decode cJ29_hasNext 5 = .ok (.getfield 1, 3) := dk_180 0 1 (dk_at dksJ29_hasNext_0 5 rfl rfl)
theorem dJ29_hasNext_8 : decode cJ29_hasNext 8 = .ok (.getfield 28, 3) := dk_180 0 28 (dk_at dksJ29_hasNext_0 8 rfl rfl)
theorem dJ29_hasNext_11 : decode cJ29_hasNext 11 = .ok (.if_icmp .eq 7, 3) := dk_159 0 7 (dk_at dksJ29_hasNext_0 11 rfl rfl)
theorem dJ29_hasNext_14 : decode cJ29_hasNext 14 = .ok (.iconst 1, 1) := dk_4 (dk_at dksJ29_hasNext_0 14 rfl rfl)
theorem dJ29_hasNext_15 : decode cJ29_hasNext 15 = .ok (.goto 4, 3) := dk_167 0 4 (dk_at dksJ29_hasNext_0 15 rfl rfl)
theorem dJ29_hasNext_18 : decode cJ29_hasNext 18 = .ok (.iconst 0, 1) := dk_3 (dk_at dksJ29_hasNext_0 18 rfl rfl)
theorem dJ29_hasNext_19 : decode cJ29_hasNext 19 = .ok (.ireturn, 1) := dk_172 (dk_at dksJ29_hasNext_0 19 rfl rfl)
abbrev cJ29_next : ByteArray := prog_57_method_3_code
def yJ29_next : MethodName := ⟨RJ29, "next", "()Ljava/lang/Object;"⟩
def dkwJ29_next_2 : List UInt8 := [183, 0, 43, 191, 42, 27, 4, 96, 181, 0, 25, 44, 42, 27, 90, 181, 0, 13, 50, 176]
abbrev dktJ29_next_2 : List UInt8 := dkwJ29_next_2 ++ []
def dkwJ29_next_1 : List UInt8 := [183, 0, 36, 191, 42, 180, 0, 1, 180, 0, 37, 77, 27, 44, 190, 161, 0, 11, 187, 0, 41, 89]
abbrev dktJ29_next_1 : List UInt8 := dkwJ29_next_1 ++ dktJ29_next_2
def dkwJ29_next_0 : List UInt8 := [42, 182, 0, 31, 42, 180, 0, 25, 60, 27, 42, 180, 0, 1, 180, 0, 28, 161, 0, 11, 187, 0, 34, 89]
abbrev dktJ29_next_0 : List UInt8 := dkwJ29_next_0 ++ dktJ29_next_1
theorem dksJ29_next_0 : cJ29_next.data.toList.drop 0 = dktJ29_next_0 := by decide +kernel
theorem dksJ29_next_1 : cJ29_next.data.toList.drop 24 = dktJ29_next_1 := dk_seg dksJ29_next_0 24 rfl rfl
theorem dksJ29_next_2 : cJ29_next.data.toList.drop 46 = dktJ29_next_2 := dk_seg dksJ29_next_1 22 rfl rfl
theorem dJ29_next_0 : decode cJ29_next 0 = .ok (.aload_n 0, 1) := dk_42 (dk_at dksJ29_next_0 0 rfl rfl)
theorem dJ29_next_1 : decode cJ29_next 1 = .ok (.invokevirtual 31, 3) := dk_182 0 31 (dk_at dksJ29_next_0 1 rfl rfl)
theorem dJ29_next_4 : decode cJ29_next 4 = .ok (.aload_n 0, 1) := dk_42 (dk_at dksJ29_next_0 4 rfl rfl)
theorem dJ29_next_5 : decode cJ29_next 5 = .ok (.getfield 25, 3) := dk_180 0 25 (dk_at dksJ29_next_0 5 rfl rfl)
theorem dJ29_next_8 : decode cJ29_next 8 = .ok (.istore_n 1, 1) := dk_60 (dk_at dksJ29_next_0 8 rfl rfl)
theorem dJ29_next_9 : decode cJ29_next 9 = .ok (.iload_n 1, 1) := dk_27 (dk_at dksJ29_next_0 9 rfl rfl)
theorem dJ29_next_10 : decode cJ29_next 10 = .ok (.aload_n 0, 1) := dk_42 (dk_at dksJ29_next_0 10 rfl rfl)
theorem dJ29_next_11 : decode cJ29_next 11 = .ok (.getfield 1, 3) := dk_180 0 1 (dk_at dksJ29_next_0 11 rfl rfl)
theorem dJ29_next_14 : decode cJ29_next 14 = .ok (.getfield 28, 3) := dk_180 0 28 (dk_at dksJ29_next_0 14 rfl rfl)
theorem dJ29_next_17 : decode cJ29_next 17 = .ok (.if_icmp .lt 11, 3) := dk_161 0 11 (dk_at dksJ29_next_0 17 rfl rfl)
theorem dJ29_next_20 : decode cJ29_next 20 = .ok (.new 34, 3) := dk_187 0 34 (dk_at dksJ29_next_0 20 rfl rfl)
theorem dJ29_next_23 : decode cJ29_next 23 = .ok (.dup, 1) := dk_89 (dk_at dksJ29_next_0 23 rfl rfl)
theorem dJ29_next_24 : decode cJ29_next 24 = .ok (.invokespecial 36, 3) := dk_183 0 36 (dk_at dksJ29_next_1 0 rfl rfl)
theorem dJ29_next_27 : decode cJ29_next 27 = .ok (.athrow, 1) := dk_191 (dk_at dksJ29_next_1 3 rfl rfl)
theorem dJ29_next_28 : decode cJ29_next 28 = .ok (.aload_n 0, 1) := dk_42 (dk_at dksJ29_next_1 4 rfl rfl)
theorem dJ29_next_29 : decode cJ29_next 29 = .ok (.getfield 1, 3) := dk_180 0 1 (dk_at dksJ29_next_1 5 rfl rfl)
theorem dJ29_next_32 : decode cJ29_next 32 = .ok (.getfield 37, 3) := dk_180 0 37 (dk_at dksJ29_next_1 8 rfl rfl)
theorem dJ29_next_35 : decode cJ29_next 35 = .ok (.astore_n 2, 1) := dk_77 (dk_at dksJ29_next_1 11 rfl rfl)
theorem dJ29_next_36 : decode cJ29_next 36 = .ok (.iload_n 1, 1) := dk_27 (dk_at dksJ29_next_1 12 rfl rfl)
theorem dJ29_next_37 : decode cJ29_next 37 = .ok (.aload_n 2, 1) := dk_44 (dk_at dksJ29_next_1 13 rfl rfl)
theorem dJ29_next_38 : decode cJ29_next 38 = .ok (.arraylength, 1) := dk_190 (dk_at dksJ29_next_1 14 rfl rfl)
theorem dJ29_next_39 : decode cJ29_next 39 = .ok (.if_icmp .lt 11, 3) := dk_161 0 11 (dk_at dksJ29_next_1 15 rfl rfl)
theorem dJ29_next_42 : decode cJ29_next 42 = .ok (.new 41, 3) := dk_187 0 41 (dk_at dksJ29_next_1 18 rfl rfl)
theorem dJ29_next_45 : decode cJ29_next 45 = .ok (.dup, 1) := dk_89 (dk_at dksJ29_next_1 21 rfl rfl)
theorem dJ29_next_46 : decode cJ29_next 46 = .ok (.invokespecial 43, 3) := dk_183 0 43 (dk_at dksJ29_next_2 0 rfl rfl)
theorem dJ29_next_49 : decode cJ29_next 49 = .ok (.athrow, 1) := dk_191 (dk_at dksJ29_next_2 3 rfl rfl)
theorem dJ29_next_50 : decode cJ29_next 50 = .ok (.aload_n 0, 1) := dk_42 (dk_at dksJ29_next_2 4 rfl rfl)
theorem dJ29_next_51 : decode cJ29_next 51 = .ok (.iload_n 1, 1) := dk_27 (dk_at dksJ29_next_2 5 rfl rfl)
theorem dJ29_next_52 : decode cJ29_next 52 = .ok (.iconst 1, 1) := dk_4 (dk_at dksJ29_next_2 6 rfl rfl)
theorem dJ29_next_53 : decode cJ29_next 53 = .ok (.iadd, 1) := dk_96 (dk_at dksJ29_next_2 7 rfl rfl)
theorem dJ29_next_54 : decode cJ29_next 54 = .ok (.putfield 25, 3) := dk_181 0 25 (dk_at dksJ29_next_2 8 rfl rfl)
theorem dJ29_next_57 : decode cJ29_next 57 = .ok (.aload_n 2, 1) := dk_44 (dk_at dksJ29_next_2 11 rfl rfl)
theorem dJ29_next_58 : decode cJ29_next 58 = .ok (.aload_n 0, 1) := dk_42 (dk_at dksJ29_next_2 12 rfl rfl)
theorem dJ29_next_59 : decode cJ29_next 59 = .ok (.iload_n 1, 1) := dk_27 (dk_at dksJ29_next_2 13 rfl rfl)
theorem dJ29_next_60 : decode cJ29_next 60 = .ok (.dup_x1, 1) := dk_90 (dk_at dksJ29_next_2 14 rfl rfl)
theorem dJ29_next_61 : decode cJ29_next 61 = .ok (.putfield 13, 3) := dk_181 0 13 (dk_at dksJ29_next_2 15 rfl rfl)
theorem dJ29_next_64 : decode cJ29_next 64 = .ok (.aaload, 1) := dk_50 (dk_at dksJ29_next_2 18 rfl rfl)
theorem dJ29_next_65 : decode cJ29_next 65 = .ok (.areturn, 1) := dk_176 (dk_at dksJ29_next_2 19 rfl rfl)
abbrev cJ29_checkForComodification : ByteArray := prog_57_method_6_code
def yJ29_checkForComodification : MethodName := ⟨RJ29, "checkForComodification", "()V"⟩
def dkwJ29_checkForComodification_0 : List UInt8 := [42, 180, 0, 1, 180, 0, 17, 42, 180, 0, 22, 159, 0, 11, 187, 0, 41, 89, 183, 0, 43, 191, 177]
abbrev dktJ29_checkForComodification_0 : List UInt8 := dkwJ29_checkForComodification_0 ++ []
theorem dksJ29_checkForComodification_0 : cJ29_checkForComodification.data.toList.drop 0 = dktJ29_checkForComodification_0 := by decide +kernel
theorem dJ29_checkForComodification_0 : decode cJ29_checkForComodification 0 = .ok (.aload_n 0, 1) := dk_42 (dk_at dksJ29_checkForComodification_0 0 rfl rfl)
theorem dJ29_checkForComodification_1 : decode cJ29_checkForComodification 1 = .ok (.getfield 1, 3) := dk_180 0 1 (dk_at dksJ29_checkForComodification_0 1 rfl rfl)
theorem dJ29_checkForComodification_4 : decode cJ29_checkForComodification 4 = .ok (.getfield 17, 3) := dk_180 0 17 (dk_at dksJ29_checkForComodification_0 4 rfl rfl)
theorem dJ29_checkForComodification_7 : decode cJ29_checkForComodification 7 = .ok (.aload_n 0, 1) := dk_42 (dk_at dksJ29_checkForComodification_0 7 rfl rfl)
theorem dJ29_checkForComodification_8 : decode cJ29_checkForComodification 8 = .ok (.getfield 22, 3) := dk_180 0 22 (dk_at dksJ29_checkForComodification_0 8 rfl rfl)
theorem dJ29_checkForComodification_11 : decode cJ29_checkForComodification 11 = .ok (.if_icmp .eq 11, 3) := dk_159 0 11 (dk_at dksJ29_checkForComodification_0 11 rfl rfl)
theorem dJ29_checkForComodification_14 : decode cJ29_checkForComodification 14 = .ok (.new 41, 3) := dk_187 0 41 (dk_at dksJ29_checkForComodification_0 14 rfl rfl)
theorem dJ29_checkForComodification_17 : decode cJ29_checkForComodification 17 = .ok (.dup, 1) := dk_89 (dk_at dksJ29_checkForComodification_0 17 rfl rfl)
theorem dJ29_checkForComodification_18 : decode cJ29_checkForComodification 18 = .ok (.invokespecial 43, 3) := dk_183 0 43 (dk_at dksJ29_checkForComodification_0 18 rfl rfl)
theorem dJ29_checkForComodification_21 : decode cJ29_checkForComodification 21 = .ok (.athrow, 1) := dk_191 (dk_at dksJ29_checkForComodification_0 21 rfl rfl)
theorem dJ29_checkForComodification_22 : decode cJ29_checkForComodification 22 = .ok (.return_, 1) := dk_177 (dk_at dksJ29_checkForComodification_0 22 rfl rfl)
abbrev cJ29_init : ByteArray := prog_57_method_1_code
def yJ29_init : MethodName := ⟨RJ29, "<init>", "(Ljava/util/ArrayList;)V"⟩
def dkwJ29_init_1 : List UInt8 := [181, 0, 22, 177]
abbrev dktJ29_init_1 : List UInt8 := dkwJ29_init_1 ++ []
def dkwJ29_init_0 : List UInt8 := [42, 43, 181, 0, 1, 42, 183, 0, 7, 42, 2, 181, 0, 13, 42, 42, 180, 0, 1, 180, 0, 17]
abbrev dktJ29_init_0 : List UInt8 := dkwJ29_init_0 ++ dktJ29_init_1
theorem dksJ29_init_0 : cJ29_init.data.toList.drop 0 = dktJ29_init_0 := by decide +kernel
theorem dksJ29_init_1 : cJ29_init.data.toList.drop 22 = dktJ29_init_1 := dk_seg dksJ29_init_0 22 rfl rfl
theorem dJ29_init_0 : decode cJ29_init 0 = .ok (.aload_n 0, 1) := dk_42 (dk_at dksJ29_init_0 0 rfl rfl)
theorem dJ29_init_1 : decode cJ29_init 1 = .ok (.aload_n 1, 1) := dk_43 (dk_at dksJ29_init_0 1 rfl rfl)
theorem dJ29_init_2 : decode cJ29_init 2 = .ok (.putfield 1, 3) := dk_181 0 1 (dk_at dksJ29_init_0 2 rfl rfl)
theorem dJ29_init_5 : decode cJ29_init 5 = .ok (.aload_n 0, 1) := dk_42 (dk_at dksJ29_init_0 5 rfl rfl)
theorem dJ29_init_6 : decode cJ29_init 6 = .ok (.invokespecial 7, 3) := dk_183 0 7 (dk_at dksJ29_init_0 6 rfl rfl)
theorem dJ29_init_9 : decode cJ29_init 9 = .ok (.aload_n 0, 1) := dk_42 (dk_at dksJ29_init_0 9 rfl rfl)
theorem dJ29_init_10 : decode cJ29_init 10 = .ok (.iconst (-1), 1) := dk_2 (dk_at dksJ29_init_0 10 rfl rfl)
theorem dJ29_init_11 : decode cJ29_init 11 = .ok (.putfield 13, 3) := dk_181 0 13 (dk_at dksJ29_init_0 11 rfl rfl)
theorem dJ29_init_14 : decode cJ29_init 14 = .ok (.aload_n 0, 1) := dk_42 (dk_at dksJ29_init_0 14 rfl rfl)
theorem dJ29_init_15 : decode cJ29_init 15 = .ok (.aload_n 0, 1) := dk_42 (dk_at dksJ29_init_0 15 rfl rfl)
theorem dJ29_init_16 : decode cJ29_init 16 = .ok (.getfield 1, 3) := dk_180 0 1 (dk_at dksJ29_init_0 16 rfl rfl)
theorem dJ29_init_19 : decode cJ29_init 19 = .ok (.getfield 17, 3) := dk_180 0 17 (dk_at dksJ29_init_0 19 rfl rfl)
theorem dJ29_init_22 : decode cJ29_init 22 = .ok (.putfield 22, 3) := dk_181 0 22 (dk_at dksJ29_init_1 0 rfl rfl)
theorem dJ29_init_25 : decode cJ29_init 25 = .ok (.return_, 1) := dk_177 (dk_at dksJ29_init_1 3 rfl rfl)
abbrev cJ29_remove : ByteArray := prog_57_method_4_code
def yJ29_remove : MethodName := ⟨RJ29, "remove", "()V"⟩
def dkwJ29_remove_2 : List UInt8 := [180, 0, 1, 180, 0, 17, 181, 0, 22, 167, 0, 12, 76, 187, 0, 41, 89, 183, 0, 43, 191, 177]
abbrev dktJ29_remove_2 : List UInt8 := dkwJ29_remove_2 ++ []
def dkwJ29_remove_1 : List UInt8 := [180, 0, 13, 182, 0, 47, 87, 42, 42, 180, 0, 13, 181, 0, 25, 42, 2, 181, 0, 13, 42, 42]
abbrev dktJ29_remove_1 : List UInt8 := dkwJ29_remove_1 ++ dktJ29_remove_2
def dkwJ29_remove_0 : List UInt8 := [42, 180, 0, 13, 156, 0, 11, 187, 0, 44, 89, 183, 0, 46, 191, 42, 182, 0, 31, 42, 180, 0, 1, 42]
abbrev dktJ29_remove_0 : List UInt8 := dkwJ29_remove_0 ++ dktJ29_remove_1
theorem dksJ29_remove_0 : cJ29_remove.data.toList.drop 0 = dktJ29_remove_0 := by decide +kernel
theorem dksJ29_remove_1 : cJ29_remove.data.toList.drop 24 = dktJ29_remove_1 := dk_seg dksJ29_remove_0 24 rfl rfl
theorem dksJ29_remove_2 : cJ29_remove.data.toList.drop 46 = dktJ29_remove_2 := dk_seg dksJ29_remove_1 22 rfl rfl
theorem dJ29_remove_0 : decode cJ29_remove 0 = .ok (.aload_n 0, 1) := dk_42 (dk_at dksJ29_remove_0 0 rfl rfl)
theorem dJ29_remove_1 : decode cJ29_remove 1 = .ok (.getfield 13, 3) := dk_180 0 13 (dk_at dksJ29_remove_0 1 rfl rfl)
theorem dJ29_remove_4 : decode cJ29_remove 4 = .ok (.ifCond .ge 11, 3) := dk_156 0 11 (dk_at dksJ29_remove_0 4 rfl rfl)
theorem dJ29_remove_7 : decode cJ29_remove 7 = .ok (.new 44, 3) := dk_187 0 44 (dk_at dksJ29_remove_0 7 rfl rfl)
theorem dJ29_remove_10 : decode cJ29_remove 10 = .ok (.dup, 1) := dk_89 (dk_at dksJ29_remove_0 10 rfl rfl)
theorem dJ29_remove_11 : decode cJ29_remove 11 = .ok (.invokespecial 46, 3) := dk_183 0 46 (dk_at dksJ29_remove_0 11 rfl rfl)
theorem dJ29_remove_14 : decode cJ29_remove 14 = .ok (.athrow, 1) := dk_191 (dk_at dksJ29_remove_0 14 rfl rfl)
theorem dJ29_remove_15 : decode cJ29_remove 15 = .ok (.aload_n 0, 1) := dk_42 (dk_at dksJ29_remove_0 15 rfl rfl)
theorem dJ29_remove_16 : decode cJ29_remove 16 = .ok (.invokevirtual 31, 3) := dk_182 0 31 (dk_at dksJ29_remove_0 16 rfl rfl)
theorem dJ29_remove_19 : decode cJ29_remove 19 = .ok (.aload_n 0, 1) := dk_42 (dk_at dksJ29_remove_0 19 rfl rfl)
theorem dJ29_remove_20 : decode cJ29_remove 20 = .ok (.getfield 1, 3) := dk_180 0 1 (dk_at dksJ29_remove_0 20 rfl rfl)
theorem dJ29_remove_23 : decode cJ29_remove 23 = .ok (.aload_n 0, 1) := dk_42 (dk_at dksJ29_remove_0 23 rfl rfl)
theorem dJ29_remove_24 : decode cJ29_remove 24 = .ok (.getfield 13, 3) := dk_180 0 13 (dk_at dksJ29_remove_1 0 rfl rfl)
theorem dJ29_remove_27 : decode cJ29_remove 27 = .ok (.invokevirtual 47, 3) := dk_182 0 47 (dk_at dksJ29_remove_1 3 rfl rfl)
theorem dJ29_remove_30 : decode cJ29_remove 30 = .ok (.pop, 1) := dk_87 (dk_at dksJ29_remove_1 6 rfl rfl)
theorem dJ29_remove_31 : decode cJ29_remove 31 = .ok (.aload_n 0, 1) := dk_42 (dk_at dksJ29_remove_1 7 rfl rfl)
theorem dJ29_remove_32 : decode cJ29_remove 32 = .ok (.aload_n 0, 1) := dk_42 (dk_at dksJ29_remove_1 8 rfl rfl)
theorem dJ29_remove_33 : decode cJ29_remove 33 = .ok (.getfield 13, 3) := dk_180 0 13 (dk_at dksJ29_remove_1 9 rfl rfl)
theorem dJ29_remove_36 : decode cJ29_remove 36 = .ok (.putfield 25, 3) := dk_181 0 25 (dk_at dksJ29_remove_1 12 rfl rfl)
theorem dJ29_remove_39 : decode cJ29_remove 39 = .ok (.aload_n 0, 1) := dk_42 (dk_at dksJ29_remove_1 15 rfl rfl)
theorem dJ29_remove_40 : decode cJ29_remove 40 = .ok (.iconst (-1), 1) := dk_2 (dk_at dksJ29_remove_1 16 rfl rfl)
theorem dJ29_remove_41 : decode cJ29_remove 41 = .ok (.putfield 13, 3) := dk_181 0 13 (dk_at dksJ29_remove_1 17 rfl rfl)
theorem dJ29_remove_44 : decode cJ29_remove 44 = .ok (.aload_n 0, 1) := dk_42 (dk_at dksJ29_remove_1 20 rfl rfl)
theorem dJ29_remove_45 : decode cJ29_remove 45 = .ok (.aload_n 0, 1) := dk_42 (dk_at dksJ29_remove_1 21 rfl rfl)
theorem dJ29_remove_46 : decode cJ29_remove 46 = .ok (.getfield 1, 3) := dk_180 0 1 (dk_at dksJ29_remove_2 0 rfl rfl)
theorem dJ29_remove_49 : decode cJ29_remove 49 = .ok (.getfield 17, 3) := dk_180 0 17 (dk_at dksJ29_remove_2 3 rfl rfl)
theorem dJ29_remove_52 : decode cJ29_remove 52 = .ok (.putfield 22, 3) := dk_181 0 22 (dk_at dksJ29_remove_2 6 rfl rfl)
theorem dJ29_remove_55 : decode cJ29_remove 55 = .ok (.goto 12, 3) := dk_167 0 12 (dk_at dksJ29_remove_2 9 rfl rfl)
theorem dJ29_remove_58 : decode cJ29_remove 58 = .ok (.astore_n 1, 1) := dk_76 (dk_at dksJ29_remove_2 12 rfl rfl)
theorem dJ29_remove_59 : decode cJ29_remove 59 = .ok (.new 41, 3) := dk_187 0 41 (dk_at dksJ29_remove_2 13 rfl rfl)
theorem dJ29_remove_62 : decode cJ29_remove 62 = .ok (.dup, 1) := dk_89 (dk_at dksJ29_remove_2 16 rfl rfl)
theorem dJ29_remove_63 : decode cJ29_remove 63 = .ok (.invokespecial 43, 3) := dk_183 0 43 (dk_at dksJ29_remove_2 17 rfl rfl)
theorem dJ29_remove_66 : decode cJ29_remove 66 = .ok (.athrow, 1) := dk_191 (dk_at dksJ29_remove_2 20 rfl rfl)
theorem dJ29_remove_67 : decode cJ29_remove 67 = .ok (.return_, 1) := dk_177 (dk_at dksJ29_remove_2 21 rfl rfl)
theorem q88 : (Jvm.Cond.initialized "java/util/ArrayList$Itr") ∈ lw_all := lw_g (lw_at lw_m1 41 rfl) rfl
theorem q475 : (Jvm.Cond.fieldLink "java/util/ArrayList$Itr" (37 : Nat) "java/util/ArrayList" "elementData" "[Ljava/lang/Object;") ∈ lw_all := lw_g (lw_at lw_m2 188 rfl) rfl
theorem q477 : (Jvm.Cond.fieldLinkNest "java/util/ArrayList$Itr" (28 : Nat) "java/util/ArrayList" "size" "I" "java/util/ArrayList") ∈ lw_tbl := lw_at lw_m2 190 rfl
theorem q482 : (Jvm.Cond.fieldLink "java/util/ArrayList$Itr" (17 : Nat) "java/util/ArrayList" "modCount" "I") ∈ lw_all := lw_g (lw_at lw_m2 195 rfl) rfl
theorem q688 : (Jvm.Cond.castable "java/util/ArrayList$Itr" "java/util/Iterator") ∈ lw_tbl := lw_at lw_m3 161 rfl
theorem q689 : (Jvm.Cond.selects "java/util/ArrayList$Itr" ({ cls := "java/util/Iterator", name := "hasNext", desc := "()Z" } : Jvm.MethodName) ({ cls := "java/util/ArrayList$Itr", name := "hasNext", desc := "()Z" } : Jvm.MethodName)) ∈ lw_all := lw_g (lw_at lw_m3 162 rfl) rfl
theorem q690 : (Jvm.Cond.unhidden "java/util/ArrayList$Itr" "hasNext" "()Z") ∈ lw_tbl := lw_at lw_m3 163 rfl
theorem q691 : (Jvm.Cond.instanceMethod ({ cls := "java/util/ArrayList$Itr", name := "hasNext", desc := "()Z" } : Jvm.MethodName)) ∈ lw_all := lw_g (lw_at lw_m3 164 rfl) rfl
theorem q692 : (Jvm.Cond.publicMethod ({ cls := "java/util/ArrayList$Itr", name := "hasNext", desc := "()Z" } : Jvm.MethodName)) ∈ lw_tbl := lw_at lw_m3 165 rfl
theorem q693 : (Jvm.Cond.code ({ cls := "java/util/ArrayList$Itr", name := "hasNext", desc := "()Z" } : Jvm.MethodName) prog_57_method_2_code (1 : Nat) (Option.some Jvm.ClassFile.FieldType.boolean)) ∈ lw_all := lw_g (lw_at lw_m3 166 rfl) rfl
theorem q849 : (Jvm.Cond.selects "java/util/ArrayList$Itr" ({ cls := "java/lang/Object", name := "getClass", desc := "()Ljava/lang/Class;" } : Jvm.MethodName) ({ cls := "java/lang/Object", name := "getClass", desc := "()Ljava/lang/Class;" } : Jvm.MethodName)) ∈ lw_all := lw_g (lw_at lw_m4 82 rfl) rfl
theorem q913 : (Jvm.Cond.selects "java/util/ArrayList$Itr" ({ cls := "java/util/Iterator", name := "next", desc := "()Ljava/lang/Object;" } : Jvm.MethodName) ({ cls := "java/util/ArrayList$Itr", name := "next", desc := "()Ljava/lang/Object;" } : Jvm.MethodName)) ∈ lw_all := lw_g (lw_at lw_m4 146 rfl) rfl
theorem q914 : (Jvm.Cond.unhidden "java/util/ArrayList$Itr" "next" "()Ljava/lang/Object;") ∈ lw_tbl := lw_at lw_m4 147 rfl
theorem q915 : (Jvm.Cond.instanceMethod ({ cls := "java/util/ArrayList$Itr", name := "next", desc := "()Ljava/lang/Object;" } : Jvm.MethodName)) ∈ lw_all := lw_g (lw_at lw_m4 148 rfl) rfl
theorem q916 : (Jvm.Cond.publicMethod ({ cls := "java/util/ArrayList$Itr", name := "next", desc := "()Ljava/lang/Object;" } : Jvm.MethodName)) ∈ lw_tbl := lw_at lw_m4 149 rfl
theorem q917 : (Jvm.Cond.code ({ cls := "java/util/ArrayList$Itr", name := "next", desc := "()Ljava/lang/Object;" } : Jvm.MethodName) prog_57_method_3_code (3 : Nat) (Option.some (Jvm.ClassFile.FieldType.object "java/lang/Object"))) ∈ lw_all := lw_g (lw_at lw_m4 150 rfl) rfl
theorem q918 : (Jvm.Cond.methodLink "java/util/ArrayList$Itr" (31 : Nat) ({ cls := "java/util/ArrayList$Itr", name := "checkForComodification", desc := "()V" } : Jvm.MethodName)) ∈ lw_all := lw_g (lw_at lw_m4 151 rfl) rfl
theorem q919 : (Jvm.Cond.instanceMethod ({ cls := "java/util/ArrayList$Itr", name := "checkForComodification", desc := "()V" } : Jvm.MethodName)) ∈ lw_all := lw_g (lw_at lw_m4 152 rfl) rfl
theorem q920 : (Jvm.Cond.selects "java/util/ArrayList$Itr" ({ cls := "java/util/ArrayList$Itr", name := "checkForComodification", desc := "()V" } : Jvm.MethodName) ({ cls := "java/util/ArrayList$Itr", name := "checkForComodification", desc := "()V" } : Jvm.MethodName)) ∈ lw_all := lw_g (lw_at lw_m4 153 rfl) rfl
theorem q921 : (Jvm.Cond.sameMethod "java/util/ArrayList$Itr" "java/util/ArrayList$Itr" "checkForComodification" "()V") ∈ lw_all := lw_g (lw_at lw_m4 154 rfl) rfl
theorem q923 : (Jvm.Cond.code ({ cls := "java/util/ArrayList$Itr", name := "checkForComodification", desc := "()V" } : Jvm.MethodName) prog_57_method_6_code (1 : Nat) (Option.none : Option Jvm.ClassFile.FieldType)) ∈ lw_all := lw_g (lw_at lw_m4 156 rfl) rfl
theorem q924 : (Jvm.Cond.classLink "java/util/ArrayList$Itr" (34 : Nat) "java/util/NoSuchElementException") ∈ lw_all := lw_g (lw_at lw_m4 157 rfl) rfl
theorem q925 : (Jvm.Cond.methodLink "java/util/ArrayList$Itr" (36 : Nat) ({ cls := "java/util/NoSuchElementException", name := "<init>", desc := "()V" } : Jvm.MethodName)) ∈ lw_all := lw_g (lw_at lw_m4 158 rfl) rfl
theorem q1078 : (Jvm.Cond.instantiable "java/util/ArrayList$Itr" (4 : Nat)) ∈ lw_all := lw_g (lw_at lw_m5 71 rfl) rfl
theorem q1080 : (Jvm.Cond.instanceMethod ({ cls := "java/util/ArrayList$Itr", name := "<init>", desc := "(Ljava/util/ArrayList;)V" } : Jvm.MethodName)) ∈ lw_all := lw_g (lw_at lw_m5 73 rfl) rfl
theorem q1081 : (Jvm.Cond.code ({ cls := "java/util/ArrayList$Itr", name := "<init>", desc := "(Ljava/util/ArrayList;)V" } : Jvm.MethodName) prog_57_method_1_code (2 : Nat) (Option.none : Option Jvm.ClassFile.FieldType)) ∈ lw_all := lw_g (lw_at lw_m5 74 rfl) rfl
theorem q1082 : (Jvm.Cond.methodLink "java/util/ArrayList$Itr" (7 : Nat) ({ cls := "java/lang/Object", name := "<init>", desc := "()V" } : Jvm.MethodName)) ∈ lw_all := lw_g (lw_at lw_m5 75 rfl) rfl
theorem q1085 : (Jvm.Cond.fieldLink "java/util/ArrayList$Itr" (25 : Nat) "java/util/ArrayList$Itr" "cursor" "I") ∈ lw_all := lw_g (lw_at lw_m5 78 rfl) rfl
theorem q1086 : (Jvm.Cond.fieldLink "java/util/ArrayList$Itr" (13 : Nat) "java/util/ArrayList$Itr" "lastRet" "I") ∈ lw_all := lw_g (lw_at lw_m5 79 rfl) rfl
theorem q1089 : (Jvm.Cond.fieldLink "java/util/ArrayList$Itr" (22 : Nat) "java/util/ArrayList$Itr" "expectedModCount" "I") ∈ lw_all := lw_g (lw_at lw_m5 82 rfl) rfl
theorem q1090 : (Jvm.Cond.fieldLink "java/util/ArrayList$Itr" (1 : Nat) "java/util/ArrayList$Itr" "this$0" "Ljava/util/ArrayList;") ∈ lw_all := lw_g (lw_at lw_m5 83 rfl) rfl
theorem q1091 : (Jvm.Cond.lays "java/util/ArrayList$Itr" "java/util/ArrayList$Itr" "cursor" "I") ∈ lw_all := lw_g (lw_at lw_m5 84 rfl) rfl
theorem q1092 : (Jvm.Cond.soleField "java/util/ArrayList$Itr" "cursor") ∈ lw_all := lw_g (lw_at lw_m5 85 rfl) rfl
theorem q1093 : (Jvm.Cond.lays "java/util/ArrayList$Itr" "java/util/ArrayList$Itr" "lastRet" "I") ∈ lw_all := lw_g (lw_at lw_m5 86 rfl) rfl
theorem q1094 : (Jvm.Cond.soleField "java/util/ArrayList$Itr" "lastRet") ∈ lw_all := lw_g (lw_at lw_m5 87 rfl) rfl
theorem q1095 : (Jvm.Cond.lays "java/util/ArrayList$Itr" "java/util/ArrayList$Itr" "expectedModCount" "I") ∈ lw_all := lw_g (lw_at lw_m5 88 rfl) rfl
theorem q1096 : (Jvm.Cond.soleField "java/util/ArrayList$Itr" "expectedModCount") ∈ lw_all := lw_g (lw_at lw_m5 89 rfl) rfl
theorem q1097 : (Jvm.Cond.laysFinal "java/util/ArrayList$Itr" "java/util/ArrayList$Itr" "this$0" "Ljava/util/ArrayList;") ∈ lw_all := lw_g (lw_at lw_m5 90 rfl) rfl
theorem q1098 : (Jvm.Cond.soleField "java/util/ArrayList$Itr" "this$0") ∈ lw_all := lw_g (lw_at lw_m5 91 rfl) rfl
theorem q1099 : (Jvm.Cond.superclass "java/util/ArrayList$Itr" "java/lang/Object") ∈ lw_all := lw_g (lw_at lw_m5 92 rfl) rfl
theorem q1519 : (Jvm.Cond.selects "java/util/ArrayList$Itr" ({ cls := "java/util/Iterator", name := "remove", desc := "()V" } : Jvm.MethodName) ({ cls := "java/util/ArrayList$Itr", name := "remove", desc := "()V" } : Jvm.MethodName)) ∈ lw_all := lw_g (lw_at lw_m7 32 rfl) rfl
theorem q1520 : (Jvm.Cond.unhidden "java/util/ArrayList$Itr" "remove" "()V") ∈ lw_tbl := lw_at lw_m7 33 rfl
theorem q1521 : (Jvm.Cond.instanceMethod ({ cls := "java/util/ArrayList$Itr", name := "remove", desc := "()V" } : Jvm.MethodName)) ∈ lw_all := lw_g (lw_at lw_m7 34 rfl) rfl
theorem q1522 : (Jvm.Cond.publicMethod ({ cls := "java/util/ArrayList$Itr", name := "remove", desc := "()V" } : Jvm.MethodName)) ∈ lw_tbl := lw_at lw_m7 35 rfl
theorem q1523 : (Jvm.Cond.codeWith ({ cls := "java/util/ArrayList$Itr", name := "remove", desc := "()V" } : Jvm.MethodName) prog_57_method_4_code (2 : Nat) (Option.none : Option Jvm.ClassFile.FieldType) [((19 : Nat), (55 : Nat), (58 : Nat), (51 : Nat))]) ∈ lw_all := lw_g (lw_at lw_m7 36 rfl) rfl
theorem q1524 : (Jvm.Cond.classLink "java/util/ArrayList$Itr" (44 : Nat) "java/lang/IllegalStateException") ∈ lw_all := lw_g (lw_at lw_m7 37 rfl) rfl
theorem q1525 : (Jvm.Cond.methodLink "java/util/ArrayList$Itr" (46 : Nat) ({ cls := "java/lang/IllegalStateException", name := "<init>", desc := "()V" } : Jvm.MethodName)) ∈ lw_all := lw_g (lw_at lw_m7 38 rfl) rfl
theorem q1526 : (Jvm.Cond.methodLink "java/util/ArrayList$Itr" (47 : Nat) ({ cls := "java/util/ArrayList", name := "remove", desc := "(I)Ljava/lang/Object;" } : Jvm.MethodName)) ∈ lw_all := lw_g (lw_at lw_m7 39 rfl) rfl
theorem q1527 : (Jvm.Cond.classLink "java/util/ArrayList$Itr" (41 : Nat) "java/util/ConcurrentModificationException") ∈ lw_all := lw_g (lw_at lw_m7 40 rfl) rfl
theorem q1528 : (Jvm.Cond.methodLink "java/util/ArrayList$Itr" (43 : Nat) ({ cls := "java/util/ConcurrentModificationException", name := "<init>", desc := "()V" } : Jvm.MethodName)) ∈ lw_all := lw_g (lw_at lw_m7 41 rfl) rfl
theorem q1922 : (Jvm.Cond.declares ({ cls := "java/util/ArrayList$Itr", name := "checkForComodification", desc := "()V" } : Jvm.MethodName)) ∈ lw_tbl := lw_at lw_m8 195 rfl
theorem q2585 : (Jvm.Cond.castable "java/util/ArrayList$Itr" "java/lang/Object") ∈ lw_tbl := lw_at lw_m11 138 rfl
theorem in_J29 : ∀ w ∈ wsJ290, w ∈ lw_all := lw_in wsJ290 [1091, 1093, 1095, 1097] (by decide +kernel) (by decide +kernel)

theorem q89 : (Jvm.Cond.initialized "java/util/ArrayList$ListItr") ∈ lw_all := lw_g (lw_at lw_m1 42 rfl) rfl
theorem q476 : (Jvm.Cond.fieldLink "java/util/ArrayList$ListItr" (25 : Nat) "java/util/ArrayList" "elementData" "[Ljava/lang/Object;") ∈ lw_all := lw_g (lw_at lw_m2 189 rfl) rfl
theorem q694 : (Jvm.Cond.castable "java/util/ArrayList$ListItr" "java/util/Iterator") ∈ lw_tbl := lw_at lw_m3 167 rfl
theorem q695 : (Jvm.Cond.selects "java/util/ArrayList$ListItr" ({ cls := "java/util/Iterator", name := "hasNext", desc := "()Z" } : Jvm.MethodName) ({ cls := "java/util/ArrayList$Itr", name := "hasNext", desc := "()Z" } : Jvm.MethodName)) ∈ lw_all := lw_g (lw_at lw_m3 168 rfl) rfl
theorem q696 : (Jvm.Cond.unhidden "java/util/ArrayList$ListItr" "hasNext" "()Z") ∈ lw_tbl := lw_at lw_m3 169 rfl
theorem q850 : (Jvm.Cond.selects "java/util/ArrayList$ListItr" ({ cls := "java/lang/Object", name := "getClass", desc := "()Ljava/lang/Class;" } : Jvm.MethodName) ({ cls := "java/lang/Object", name := "getClass", desc := "()Ljava/lang/Class;" } : Jvm.MethodName)) ∈ lw_all := lw_g (lw_at lw_m4 83 rfl) rfl
theorem q922 : (Jvm.Cond.selects "java/util/ArrayList$ListItr" ({ cls := "java/util/ArrayList$Itr", name := "checkForComodification", desc := "()V" } : Jvm.MethodName) ({ cls := "java/util/ArrayList$Itr", name := "checkForComodification", desc := "()V" } : Jvm.MethodName)) ∈ lw_all := lw_g (lw_at lw_m4 155 rfl) rfl
theorem q926 : (Jvm.Cond.selects "java/util/ArrayList$ListItr" ({ cls := "java/util/Iterator", name := "next", desc := "()Ljava/lang/Object;" } : Jvm.MethodName) ({ cls := "java/util/ArrayList$Itr", name := "next", desc := "()Ljava/lang/Object;" } : Jvm.MethodName)) ∈ lw_all := lw_g (lw_at lw_m4 159 rfl) rfl
theorem q927 : (Jvm.Cond.unhidden "java/util/ArrayList$ListItr" "next" "()Ljava/lang/Object;") ∈ lw_tbl := lw_at lw_m4 160 rfl
theorem q1083 : (Jvm.Cond.fieldLink "java/util/ArrayList$ListItr" (13 : Nat) "java/util/ArrayList$ListItr" "cursor" "I") ∈ lw_all := lw_g (lw_at lw_m5 76 rfl) rfl
theorem q1084 : (Jvm.Cond.sameField "java/util/ArrayList$ListItr" "java/util/ArrayList$Itr" "cursor" "I") ∈ lw_all := lw_g (lw_at lw_m5 77 rfl) rfl
theorem q1087 : (Jvm.Cond.fieldLink "java/util/ArrayList$ListItr" (34 : Nat) "java/util/ArrayList$ListItr" "lastRet" "I") ∈ lw_all := lw_g (lw_at lw_m5 80 rfl) rfl
theorem q1088 : (Jvm.Cond.sameField "java/util/ArrayList$ListItr" "java/util/ArrayList$Itr" "lastRet" "I") ∈ lw_all := lw_g (lw_at lw_m5 81 rfl) rfl
theorem q1399 : (Jvm.Cond.instantiable "java/util/ArrayList$ListItr" (5 : Nat)) ∈ lw_all := lw_g (lw_at lw_m6 152 rfl) rfl
theorem q1401 : (Jvm.Cond.instanceMethod ({ cls := "java/util/ArrayList$ListItr", name := "<init>", desc := "(Ljava/util/ArrayList;I)V" } : Jvm.MethodName)) ∈ lw_all := lw_g (lw_at lw_m6 154 rfl) rfl
theorem q1402 : (Jvm.Cond.code ({ cls := "java/util/ArrayList$ListItr", name := "<init>", desc := "(Ljava/util/ArrayList;I)V" } : Jvm.MethodName) prog_58_method_1_code (3 : Nat) (Option.none : Option Jvm.ClassFile.FieldType)) ∈ lw_all := lw_g (lw_at lw_m6 155 rfl) rfl
theorem q1403 : (Jvm.Cond.methodLink "java/util/ArrayList$ListItr" (7 : Nat) ({ cls := "java/util/ArrayList$Itr", name := "<init>", desc := "(Ljava/util/ArrayList;)V" } : Jvm.MethodName)) ∈ lw_all := lw_g (lw_at lw_m6 156 rfl) rfl
theorem q1404 : (Jvm.Cond.fieldLink "java/util/ArrayList$ListItr" (1 : Nat) "java/util/ArrayList$ListItr" "this$0" "Ljava/util/ArrayList;") ∈ lw_all := lw_g (lw_at lw_m6 157 rfl) rfl
theorem q1405 : (Jvm.Cond.laysFinal "java/util/ArrayList$ListItr" "java/util/ArrayList$ListItr" "this$0" "Ljava/util/ArrayList;") ∈ lw_all := lw_g (lw_at lw_m6 158 rfl) rfl
theorem q1406 : (Jvm.Cond.soleField "java/util/ArrayList$ListItr" "this$0") ∈ lw_all := lw_g (lw_at lw_m6 159 rfl) rfl
theorem q1407 : (Jvm.Cond.lays "java/util/ArrayList$ListItr" "java/util/ArrayList$Itr" "cursor" "I") ∈ lw_all := lw_g (lw_at lw_m6 160 rfl) rfl
theorem q1408 : (Jvm.Cond.lays "java/util/ArrayList$ListItr" "java/util/ArrayList$Itr" "lastRet" "I") ∈ lw_all := lw_g (lw_at lw_m6 161 rfl) rfl
theorem q1409 : (Jvm.Cond.lays "java/util/ArrayList$ListItr" "java/util/ArrayList$Itr" "expectedModCount" "I") ∈ lw_all := lw_g (lw_at lw_m6 162 rfl) rfl
theorem q1410 : (Jvm.Cond.laysFinal "java/util/ArrayList$ListItr" "java/util/ArrayList$Itr" "this$0" "Ljava/util/ArrayList;") ∈ lw_all := lw_g (lw_at lw_m6 163 rfl) rfl
theorem q1411 : (Jvm.Cond.superclass "java/util/ArrayList$ListItr" "java/util/ArrayList$Itr") ∈ lw_all := lw_g (lw_at lw_m6 164 rfl) rfl
theorem q1529 : (Jvm.Cond.selects "java/util/ArrayList$ListItr" ({ cls := "java/util/Iterator", name := "remove", desc := "()V" } : Jvm.MethodName) ({ cls := "java/util/ArrayList$Itr", name := "remove", desc := "()V" } : Jvm.MethodName)) ∈ lw_all := lw_g (lw_at lw_m7 42 rfl) rfl
theorem q1530 : (Jvm.Cond.unhidden "java/util/ArrayList$ListItr" "remove" "()V") ∈ lw_tbl := lw_at lw_m7 43 rfl
theorem q1893 : (Jvm.Cond.castable "java/util/ArrayList$ListItr" "java/util/ListIterator") ∈ lw_tbl := lw_at lw_m8 166 rfl
theorem q1894 : (Jvm.Cond.selects "java/util/ArrayList$ListItr" ({ cls := "java/util/ListIterator", name := "next", desc := "()Ljava/lang/Object;" } : Jvm.MethodName) ({ cls := "java/util/ArrayList$Itr", name := "next", desc := "()Ljava/lang/Object;" } : Jvm.MethodName)) ∈ lw_all := lw_g (lw_at lw_m8 167 rfl) rfl
theorem q1915 : (Jvm.Cond.selects "java/util/ArrayList$ListItr" ({ cls := "java/util/ListIterator", name := "previous", desc := "()Ljava/lang/Object;" } : Jvm.MethodName) ({ cls := "java/util/ArrayList$ListItr", name := "previous", desc := "()Ljava/lang/Object;" } : Jvm.MethodName)) ∈ lw_all := lw_g (lw_at lw_m8 188 rfl) rfl
theorem q1916 : (Jvm.Cond.unhidden "java/util/ArrayList$ListItr" "previous" "()Ljava/lang/Object;") ∈ lw_tbl := lw_at lw_m8 189 rfl
theorem q1917 : (Jvm.Cond.instanceMethod ({ cls := "java/util/ArrayList$ListItr", name := "previous", desc := "()Ljava/lang/Object;" } : Jvm.MethodName)) ∈ lw_all := lw_g (lw_at lw_m8 190 rfl) rfl
theorem q1918 : (Jvm.Cond.publicMethod ({ cls := "java/util/ArrayList$ListItr", name := "previous", desc := "()Ljava/lang/Object;" } : Jvm.MethodName)) ∈ lw_tbl := lw_at lw_m8 191 rfl
theorem q1919 : (Jvm.Cond.code ({ cls := "java/util/ArrayList$ListItr", name := "previous", desc := "()Ljava/lang/Object;" } : Jvm.MethodName) prog_58_method_5_code (3 : Nat) (Option.some (Jvm.ClassFile.FieldType.object "java/lang/Object"))) ∈ lw_all := lw_g (lw_at lw_m8 192 rfl) rfl
theorem q1920 : (Jvm.Cond.methodLink "java/util/ArrayList$ListItr" (17 : Nat) ({ cls := "java/util/ArrayList$ListItr", name := "checkForComodification", desc := "()V" } : Jvm.MethodName)) ∈ lw_all := lw_g (lw_at lw_m8 193 rfl) rfl
theorem q1921 : (Jvm.Cond.sameMethod "java/util/ArrayList$ListItr" "java/util/ArrayList$Itr" "checkForComodification" "()V") ∈ lw_all := lw_g (lw_at lw_m8 194 rfl) rfl
theorem q1923 : (Jvm.Cond.selects "java/util/ArrayList$ListItr" ({ cls := "java/util/ArrayList$ListItr", name := "checkForComodification", desc := "()V" } : Jvm.MethodName) ({ cls := "java/util/ArrayList$Itr", name := "checkForComodification", desc := "()V" } : Jvm.MethodName)) ∈ lw_all := lw_g (lw_at lw_m8 196 rfl) rfl
theorem q1924 : (Jvm.Cond.classLink "java/util/ArrayList$ListItr" (21 : Nat) "java/util/NoSuchElementException") ∈ lw_all := lw_g (lw_at lw_m8 197 rfl) rfl
theorem q1925 : (Jvm.Cond.methodLink "java/util/ArrayList$ListItr" (23 : Nat) ({ cls := "java/util/NoSuchElementException", name := "<init>", desc := "()V" } : Jvm.MethodName)) ∈ lw_all := lw_g (lw_at lw_m8 198 rfl) rfl
theorem q1959 : (Jvm.Cond.selects "java/util/ArrayList$ListItr" ({ cls := "java/util/ListIterator", name := "set", desc := "(Ljava/lang/Object;)V" } : Jvm.MethodName) ({ cls := "java/util/ArrayList$ListItr", name := "set", desc := "(Ljava/lang/Object;)V" } : Jvm.MethodName)) ∈ lw_all := lw_g (lw_at lw_m8 232 rfl) rfl
theorem q1960 : (Jvm.Cond.unhidden "java/util/ArrayList$ListItr" "set" "(Ljava/lang/Object;)V") ∈ lw_tbl := lw_at lw_m8 233 rfl
theorem q1961 : (Jvm.Cond.instanceMethod ({ cls := "java/util/ArrayList$ListItr", name := "set", desc := "(Ljava/lang/Object;)V" } : Jvm.MethodName)) ∈ lw_all := lw_g (lw_at lw_m8 234 rfl) rfl
theorem q1962 : (Jvm.Cond.publicMethod ({ cls := "java/util/ArrayList$ListItr", name := "set", desc := "(Ljava/lang/Object;)V" } : Jvm.MethodName)) ∈ lw_tbl := lw_at lw_m8 235 rfl
theorem q1963 : (Jvm.Cond.codeWith ({ cls := "java/util/ArrayList$ListItr", name := "set", desc := "(Ljava/lang/Object;)V" } : Jvm.MethodName) prog_58_method_6_code (3 : Nat) (Option.none : Option Jvm.ClassFile.FieldType) [((19 : Nat), (32 : Nat), (35 : Nat), (44 : Nat))]) ∈ lw_all := lw_g (lw_at lw_m8 236 rfl) rfl
theorem q1964 : (Jvm.Cond.classLink "java/util/ArrayList$ListItr" (37 : Nat) "java/lang/IllegalStateException") ∈ lw_all := lw_g (lw_at lw_m8 237 rfl) rfl
theorem q1965 : (Jvm.Cond.methodLink "java/util/ArrayList$ListItr" (39 : Nat) ({ cls := "java/lang/IllegalStateException", name := "<init>", desc := "()V" } : Jvm.MethodName)) ∈ lw_all := lw_g (lw_at lw_m8 238 rfl) rfl
theorem q1966 : (Jvm.Cond.methodLink "java/util/ArrayList$ListItr" (40 : Nat) ({ cls := "java/util/ArrayList", name := "set", desc := "(ILjava/lang/Object;)Ljava/lang/Object;" } : Jvm.MethodName)) ∈ lw_all := lw_g (lw_at lw_m8 239 rfl) rfl
theorem q1967 : (Jvm.Cond.classLink "java/util/ArrayList$ListItr" (31 : Nat) "java/util/ConcurrentModificationException") ∈ lw_all := lw_g (lw_at lw_m9 0 rfl) rfl
theorem q1968 : (Jvm.Cond.methodLink "java/util/ArrayList$ListItr" (33 : Nat) ({ cls := "java/util/ConcurrentModificationException", name := "<init>", desc := "()V" } : Jvm.MethodName)) ∈ lw_all := lw_g (lw_at lw_m9 1 rfl) rfl
theorem q2578 : (Jvm.Cond.castable "java/util/ArrayList$ListItr" "java/lang/Object") ∈ lw_tbl := lw_at lw_m11 131 rfl

/-! java/util/LinkedList$ListItr -/
set_option maxRecDepth 100000
def RJ31 : String := "java/util/LinkedList$ListItr"
def TJ31 : u_T := fun k => match k with
  | 0 => ("java/util/LinkedList$ListItr", "lastReturned", "Ljava/util/LinkedList$Node;", false)
  | 1 => ("java/util/LinkedList$ListItr", "next", "Ljava/util/LinkedList$Node;", false)
  | 2 => ("java/util/LinkedList$ListItr", "nextIndex", "I", false)
  | 3 => ("java/util/LinkedList$ListItr", "expectedModCount", "I", false)
  | _ => ("java/util/LinkedList$ListItr", "this$0", "Ljava/util/LinkedList;", true)
def tyJ31 : Nat → FieldType := fun k => match k with
  | 0 => .object "java/util/LinkedList$Node"
  | 1 => .object "java/util/LinkedList$Node"
  | 2 => .int
  | 3 => .int
  | _ => .object "java/util/LinkedList"
abbrev wsJ310 : List Cond := u_ws RJ31 TJ31 5
theorem nmJ31 : ∀ a, a < 5 → ∀ b, b < 5 → a ≠ b → (TJ31 a).2.1 ≠ (TJ31 b).2.1 := by decide +kernel
theorem tyJ31_ok : ∀ k, k < 5 → parseFieldDescriptor (TJ31 k).2.2.1 = some (tyJ31 k) := by decide +kernel
abbrev cJ31_hasNext : ByteArray := prog_73_method_2_code
def yJ31_hasNext : MethodName := ⟨RJ31, "hasNext", "()Z"⟩
def dkwJ31_hasNext_0 : List UInt8 := [42, 180, 0, 33, 42, 180, 0, 1, 180, 0, 22, 162, 0, 7, 4, 167, 0, 4, 3, 172]
abbrev dktJ31_hasNext_0 : List UInt8 := dkwJ31_hasNext_0 ++ []
theorem dksJ31_hasNext_0 : cJ31_hasNext.data.toList.drop 0 = dktJ31_hasNext_0 := by decide +kernel
theorem dJ31_hasNext_0 : decode cJ31_hasNext 0 = .ok (.aload_n 0, 1) := dk_42 (dk_at dksJ31_hasNext_0 0 rfl rfl)
theorem dJ31_hasNext_1 : decode cJ31_hasNext 1 = .ok (.getfield 33, 3) := dk_180 0 33 (dk_at dksJ31_hasNext_0 1 rfl rfl)
theorem dJ31_hasNext_4 : decode cJ31_hasNext 4 = .ok (.aload_n 0, 1) := dk_42 (dk_at dksJ31_hasNext_0 4 rfl rfl)
theorem dJ31_hasNext_5 : decode cJ31_hasNext 5 = .ok (.getfield 1, 3) := dk_180 0 1 (dk_at dksJ31_hasNext_0 5 rfl rfl)
theorem dJ31_hasNext_8 : decode cJ31_hasNext 8 = .ok (.getfield 22, 3) := dk_180 0 22 (dk_at dksJ31_hasNext_0 8 rfl rfl)
theorem dJ31_hasNext_11 : decode cJ31_hasNext 11 = .ok (.if_icmp .ge 7, 3) := dk_162 0 7 (dk_at dksJ31_hasNext_0 11 rfl rfl)
theorem dJ31_hasNext_14 : decode cJ31_hasNext 14 = .ok (.iconst 1, 1) := dk_4 (dk_at dksJ31_hasNext_0 14 rfl rfl)
theorem dJ31_hasNext_15 : decode cJ31_hasNext 15 = .ok (.goto 4, 3) := dk_167 0 4 (dk_at dksJ31_hasNext_0 15 rfl rfl)
theorem dJ31_hasNext_18 : decode cJ31_hasNext 18 = .ok (.iconst 0, 1) := dk_3 (dk_at dksJ31_hasNext_0 18 rfl rfl)
theorem dJ31_hasNext_19 : decode cJ31_hasNext 19 = .ok (.ireturn, 1) := dk_172 (dk_at dksJ31_hasNext_0 19 rfl rfl)
abbrev cJ31_next : ByteArray := prog_73_method_3_code
def yJ31_next : MethodName := ⟨RJ31, "next", "()Ljava/lang/Object;"⟩
def dkwJ31_next_2 : List UInt8 := [42, 180, 0, 46, 180, 0, 52, 176]
abbrev dktJ31_next_2 : List UInt8 := dkwJ31_next_2 ++ []
def dkwJ31_next_1 : List UInt8 := [181, 0, 46, 42, 42, 180, 0, 29, 180, 0, 49, 181, 0, 29, 42, 89, 180, 0, 33, 4, 96, 181, 0, 33]
abbrev dktJ31_next_1 : List UInt8 := dkwJ31_next_1 ++ dktJ31_next_2
def dkwJ31_next_0 : List UInt8 := [42, 182, 0, 36, 42, 182, 0, 39, 154, 0, 11, 187, 0, 43, 89, 183, 0, 45, 191, 42, 42, 180, 0, 29]
abbrev dktJ31_next_0 : List UInt8 := dkwJ31_next_0 ++ dktJ31_next_1
theorem dksJ31_next_0 : cJ31_next.data.toList.drop 0 = dktJ31_next_0 := by decide +kernel
theorem dksJ31_next_1 : cJ31_next.data.toList.drop 24 = dktJ31_next_1 := dk_seg dksJ31_next_0 24 rfl rfl
theorem dksJ31_next_2 : cJ31_next.data.toList.drop 48 = dktJ31_next_2 := dk_seg dksJ31_next_1 24 rfl rfl
theorem dJ31_next_0 : decode cJ31_next 0 = .ok (.aload_n 0, 1) := dk_42 (dk_at dksJ31_next_0 0 rfl rfl)
theorem dJ31_next_1 : decode cJ31_next 1 = .ok (.invokevirtual 36, 3) := dk_182 0 36 (dk_at dksJ31_next_0 1 rfl rfl)
theorem dJ31_next_4 : decode cJ31_next 4 = .ok (.aload_n 0, 1) := dk_42 (dk_at dksJ31_next_0 4 rfl rfl)
theorem dJ31_next_5 : decode cJ31_next 5 = .ok (.invokevirtual 39, 3) := dk_182 0 39 (dk_at dksJ31_next_0 5 rfl rfl)
theorem dJ31_next_8 : decode cJ31_next 8 = .ok (.ifCond .ne 11, 3) := dk_154 0 11 (dk_at dksJ31_next_0 8 rfl rfl)
theorem dJ31_next_11 : decode cJ31_next 11 = .ok (.new 43, 3) := dk_187 0 43 (dk_at dksJ31_next_0 11 rfl rfl)
theorem dJ31_next_14 : decode cJ31_next 14 = .ok (.dup, 1) := dk_89 (dk_at dksJ31_next_0 14 rfl rfl)
theorem dJ31_next_15 : decode cJ31_next 15 = .ok (.invokespecial 45, 3) := dk_183 0 45 (dk_at dksJ31_next_0 15 rfl rfl)
theorem dJ31_next_18 : decode cJ31_next 18 = .ok (.athrow, 1) := dk_191 (dk_at dksJ31_next_0 18 rfl rfl)
theorem dJ31_next_19 : decode cJ31_next 19 = .ok (.aload_n 0, 1) := dk_42 (dk_at dksJ31_next_0 19 rfl rfl)
theorem dJ31_next_20 : decode cJ31_next 20 = .ok (.aload_n 0, 1) := dk_42 (dk_at dksJ31_next_0 20 rfl rfl)
theorem dJ31_next_21 : decode cJ31_next 21 = .ok (.getfield 29, 3) := dk_180 0 29 (dk_at dksJ31_next_0 21 rfl rfl)
theorem dJ31_next_24 : decode cJ31_next 24 = .ok (.putfield 46, 3) := dk_181 0 46 (dk_at dksJ31_next_1 0 rfl rfl)
theorem dJ31_next_27 : decode cJ31_next 27 = .ok (.aload_n 0, 1) := dk_42 (dk_at dksJ31_next_1 3 rfl rfl)
theorem dJ31_next_28 : decode cJ31_next 28 = .ok (.aload_n 0, 1) := dk_42 (dk_at dksJ31_next_1 4 rfl rfl)
theorem dJ31_next_29 : decode cJ31_next 29 = .ok (.getfield 29, 3) := dk_180 0 29 (dk_at dksJ31_next_1 5 rfl rfl)
theorem dJ31_next_32 : decode cJ31_next 32 = .ok (.getfield 49, 3) := dk_180 0 49 (dk_at dksJ31_next_1 8 rfl rfl)
theorem dJ31_next_35 : decode cJ31_next 35 = .ok (.putfield 29, 3) := dk_181 0 29 (dk_at dksJ31_next_1 11 rfl rfl)
theorem dJ31_next_38 : decode cJ31_next 38 = .ok (.aload_n 0, 1) := dk_42 (dk_at dksJ31_next_1 14 rfl rfl)
theorem dJ31_next_39 : decode cJ31_next 39 = .ok (.dup, 1) := dk_89 (dk_at dksJ31_next_1 15 rfl rfl)
theorem dJ31_next_40 : decode cJ31_next 40 = .ok (.getfield 33, 3) := dk_180 0 33 (dk_at dksJ31_next_1 16 rfl rfl)
theorem dJ31_next_43 : decode cJ31_next 43 = .ok (.iconst 1, 1) := dk_4 (dk_at dksJ31_next_1 19 rfl rfl)
theorem dJ31_next_44 : decode cJ31_next 44 = .ok (.iadd, 1) := dk_96 (dk_at dksJ31_next_1 20 rfl rfl)
theorem dJ31_next_45 : decode cJ31_next 45 = .ok (.putfield 33, 3) := dk_181 0 33 (dk_at dksJ31_next_1 21 rfl rfl)
theorem dJ31_next_48 : decode cJ31_next 48 = .ok (.aload_n 0, 1) := dk_42 (dk_at dksJ31_next_2 0 rfl rfl)
theorem dJ31_next_49 : decode cJ31_next 49 = .ok (.getfield 46, 3) := dk_180 0 46 (dk_at dksJ31_next_2 1 rfl rfl)
theorem dJ31_next_52 : decode cJ31_next 52 = .ok (.getfield 52, 3) := dk_180 0 52 (dk_at dksJ31_next_2 4 rfl rfl)
theorem dJ31_next_55 : decode cJ31_next 55 = .ok (.areturn, 1) := dk_176 (dk_at dksJ31_next_2 7 rfl rfl)
abbrev cJ31_checkForComodification : ByteArray := prog_73_method_12_code
def yJ31_checkForComodification : MethodName := ⟨RJ31, "checkForComodification", "()V"⟩
def dkwJ31_checkForComodification_0 : List UInt8 := [42, 180, 0, 1, 180, 0, 13, 42, 180, 0, 19, 159, 0, 11, 187, 0, 91, 89, 183, 0, 93, 191, 177]
abbrev dktJ31_checkForComodification_0 : List UInt8 := dkwJ31_checkForComodification_0 ++ []
theorem dksJ31_checkForComodification_0 : cJ31_checkForComodification.data.toList.drop 0 = dktJ31_checkForComodification_0 := by decide +kernel
theorem dJ31_checkForComodification_0 : decode cJ31_checkForComodification 0 = .ok (.aload_n 0, 1) := dk_42 (dk_at dksJ31_checkForComodification_0 0 rfl rfl)
theorem dJ31_checkForComodification_1 : decode cJ31_checkForComodification 1 = .ok (.getfield 1, 3) := dk_180 0 1 (dk_at dksJ31_checkForComodification_0 1 rfl rfl)
theorem dJ31_checkForComodification_4 : decode cJ31_checkForComodification 4 = .ok (.getfield 13, 3) := dk_180 0 13 (dk_at dksJ31_checkForComodification_0 4 rfl rfl)
theorem dJ31_checkForComodification_7 : decode cJ31_checkForComodification 7 = .ok (.aload_n 0, 1) := dk_42 (dk_at dksJ31_checkForComodification_0 7 rfl rfl)
theorem dJ31_checkForComodification_8 : decode cJ31_checkForComodification 8 = .ok (.getfield 19, 3) := dk_180 0 19 (dk_at dksJ31_checkForComodification_0 8 rfl rfl)
theorem dJ31_checkForComodification_11 : decode cJ31_checkForComodification 11 = .ok (.if_icmp .eq 11, 3) := dk_159 0 11 (dk_at dksJ31_checkForComodification_0 11 rfl rfl)
theorem dJ31_checkForComodification_14 : decode cJ31_checkForComodification 14 = .ok (.new 91, 3) := dk_187 0 91 (dk_at dksJ31_checkForComodification_0 14 rfl rfl)
theorem dJ31_checkForComodification_17 : decode cJ31_checkForComodification 17 = .ok (.dup, 1) := dk_89 (dk_at dksJ31_checkForComodification_0 17 rfl rfl)
theorem dJ31_checkForComodification_18 : decode cJ31_checkForComodification 18 = .ok (.invokespecial 93, 3) := dk_183 0 93 (dk_at dksJ31_checkForComodification_0 18 rfl rfl)
theorem dJ31_checkForComodification_21 : decode cJ31_checkForComodification 21 = .ok (.athrow, 1) := dk_191 (dk_at dksJ31_checkForComodification_0 21 rfl rfl)
theorem dJ31_checkForComodification_22 : decode cJ31_checkForComodification 22 = .ok (.return_, 1) := dk_177 (dk_at dksJ31_checkForComodification_0 22 rfl rfl)
abbrev cJ31_init : ByteArray := prog_73_method_1_code
def yJ31_init : MethodName := ⟨RJ31, "<init>", "(Ljava/util/LinkedList;I)V"⟩
def dkwJ31_init_1 : List UInt8 := [180, 0, 22, 160, 0, 7, 1, 167, 0, 8, 43, 28, 182, 0, 25, 181, 0, 29, 42, 28, 181, 0, 33, 177]
abbrev dktJ31_init_1 : List UInt8 := dkwJ31_init_1 ++ []
def dkwJ31_init_0 : List UInt8 := [42, 43, 181, 0, 1, 42, 183, 0, 7, 42, 42, 180, 0, 1, 180, 0, 13, 181, 0, 19, 42, 28, 43]
abbrev dktJ31_init_0 : List UInt8 := dkwJ31_init_0 ++ dktJ31_init_1
theorem dksJ31_init_0 : cJ31_init.data.toList.drop 0 = dktJ31_init_0 := by decide +kernel
theorem dksJ31_init_1 : cJ31_init.data.toList.drop 23 = dktJ31_init_1 := dk_seg dksJ31_init_0 23 rfl rfl
theorem dJ31_init_0 : decode cJ31_init 0 = .ok (.aload_n 0, 1) := dk_42 (dk_at dksJ31_init_0 0 rfl rfl)
theorem dJ31_init_1 : decode cJ31_init 1 = .ok (.aload_n 1, 1) := dk_43 (dk_at dksJ31_init_0 1 rfl rfl)
theorem dJ31_init_2 : decode cJ31_init 2 = .ok (.putfield 1, 3) := dk_181 0 1 (dk_at dksJ31_init_0 2 rfl rfl)
theorem dJ31_init_5 : decode cJ31_init 5 = .ok (.aload_n 0, 1) := dk_42 (dk_at dksJ31_init_0 5 rfl rfl)
theorem dJ31_init_6 : decode cJ31_init 6 = .ok (.invokespecial 7, 3) := dk_183 0 7 (dk_at dksJ31_init_0 6 rfl rfl)
theorem dJ31_init_9 : decode cJ31_init 9 = .ok (.aload_n 0, 1) := dk_42 (dk_at dksJ31_init_0 9 rfl rfl)
theorem dJ31_init_10 : decode cJ31_init 10 = .ok (.aload_n 0, 1) := dk_42 (dk_at dksJ31_init_0 10 rfl rfl)
theorem dJ31_init_11 : decode cJ31_init 11 = .ok (.getfield 1, 3) := dk_180 0 1 (dk_at dksJ31_init_0 11 rfl rfl)
theorem dJ31_init_14 : decode cJ31_init 14 = .ok (.getfield 13, 3) := dk_180 0 13 (dk_at dksJ31_init_0 14 rfl rfl)
theorem dJ31_init_17 : decode cJ31_init 17 = .ok (.putfield 19, 3) := dk_181 0 19 (dk_at dksJ31_init_0 17 rfl rfl)
theorem dJ31_init_20 : decode cJ31_init 20 = .ok (.aload_n 0, 1) := dk_42 (dk_at dksJ31_init_0 20 rfl rfl)
theorem dJ31_init_21 : decode cJ31_init 21 = .ok (.iload_n 2, 1) := dk_28 (dk_at dksJ31_init_0 21 rfl rfl)
theorem dJ31_init_22 : decode cJ31_init 22 = .ok (.aload_n 1, 1) := dk_43 (dk_at dksJ31_init_0 22 rfl rfl)
theorem dJ31_init_23 : decode cJ31_init 23 = .ok (.getfield 22, 3) := dk_180 0 22 (dk_at dksJ31_init_1 0 rfl rfl)
theorem dJ31_init_26 : decode cJ31_init 26 = .ok (.if_icmp .ne 7, 3) := dk_160 0 7 (dk_at dksJ31_init_1 3 rfl rfl)
theorem dJ31_init_29 : decode cJ31_init 29 = .ok (.aconst_null, 1) := dk_1 (dk_at dksJ31_init_1 6 rfl rfl)
theorem dJ31_init_30 : decode cJ31_init 30 = .ok (.goto 8, 3) := dk_167 0 8 (dk_at dksJ31_init_1 7 rfl rfl)
theorem dJ31_init_33 : decode cJ31_init 33 = .ok (.aload_n 1, 1) := dk_43 (dk_at dksJ31_init_1 10 rfl rfl)
theorem dJ31_init_34 : decode cJ31_init 34 = .ok (.iload_n 2, 1) := dk_28 (dk_at dksJ31_init_1 11 rfl rfl)
theorem dJ31_init_35 : decode cJ31_init 35 = .ok (.invokevirtual 25, 3) := dk_182 0 25 (dk_at dksJ31_init_1 12 rfl rfl)
theorem dJ31_init_38 : decode cJ31_init 38 = .ok (.putfield 29, 3) := dk_181 0 29 (dk_at dksJ31_init_1 15 rfl rfl)
theorem dJ31_init_41 : decode cJ31_init 41 = .ok (.aload_n 0, 1) := dk_42 (dk_at dksJ31_init_1 18 rfl rfl)
theorem dJ31_init_42 : decode cJ31_init 42 = .ok (.iload_n 2, 1) := dk_28 (dk_at dksJ31_init_1 19 rfl rfl)
theorem dJ31_init_43 : decode cJ31_init 43 = .ok (.putfield 33, 3) := dk_181 0 33 (dk_at dksJ31_init_1 20 rfl rfl)
theorem dJ31_init_46 : decode cJ31_init 46 = .ok (.return_, 1) := dk_177 (dk_at dksJ31_init_1 23 rfl rfl)
abbrev cJ31_remove : ByteArray := prog_73_method_8_code
def yJ31_remove : MethodName := ⟨RJ31, "remove", "()V"⟩
def dkwJ31_remove_3 : List UInt8 := [181, 0, 46, 42, 89, 180, 0, 19, 4, 96, 181, 0, 19, 177]
abbrev dktJ31_remove_3 : List UInt8 := dkwJ31_remove_3 ++ []
def dkwJ31_remove_2 : List UInt8 := [166, 0, 11, 42, 43, 181, 0, 29, 167, 0, 13, 42, 89, 180, 0, 33, 4, 100, 181, 0, 33, 42, 1]
abbrev dktJ31_remove_2 : List UInt8 := dkwJ31_remove_2 ++ dktJ31_remove_3
def dkwJ31_remove_1 : List UInt8 := [180, 0, 49, 76, 42, 180, 0, 1, 42, 180, 0, 46, 182, 0, 68, 87, 42, 180, 0, 29, 42, 180, 0, 46]
abbrev dktJ31_remove_1 : List UInt8 := dkwJ31_remove_1 ++ dktJ31_remove_2
def dkwJ31_remove_0 : List UInt8 := [42, 182, 0, 36, 42, 180, 0, 46, 199, 0, 11, 187, 0, 65, 89, 183, 0, 67, 191, 42, 180, 0, 46]
abbrev dktJ31_remove_0 : List UInt8 := dkwJ31_remove_0 ++ dktJ31_remove_1
theorem dksJ31_remove_0 : cJ31_remove.data.toList.drop 0 = dktJ31_remove_0 := by decide +kernel
theorem dksJ31_remove_1 : cJ31_remove.data.toList.drop 23 = dktJ31_remove_1 := dk_seg dksJ31_remove_0 23 rfl rfl
theorem dksJ31_remove_2 : cJ31_remove.data.toList.drop 47 = dktJ31_remove_2 := dk_seg dksJ31_remove_1 24 rfl rfl
theorem dksJ31_remove_3 : cJ31_remove.data.toList.drop 70 = dktJ31_remove_3 := dk_seg dksJ31_remove_2 23 rfl rfl
theorem dJ31_remove_0 : decode cJ31_remove 0 = .ok (.aload_n 0, 1) := dk_42 (dk_at dksJ31_remove_0 0 rfl rfl)
theorem dJ31_remove_1 : decode cJ31_remove 1 = .ok (.invokevirtual 36, 3) := dk_182 0 36 (dk_at dksJ31_remove_0 1 rfl rfl)
theorem dJ31_remove_4 : decode cJ31_remove 4 = .ok (.aload_n 0, 1) := dk_42 (dk_at dksJ31_remove_0 4 rfl rfl)
theorem dJ31_remove_5 : decode cJ31_remove 5 = .ok (.getfield 46, 3) := dk_180 0 46 (dk_at dksJ31_remove_0 5 rfl rfl)
theorem dJ31_remove_8 : decode cJ31_remove 8 = .ok (.ifnonnull 11, 3) := dk_199 0 11 (dk_at dksJ31_remove_0 8 rfl rfl)
theorem dJ31_remove_11 : decode cJ31_remove 11 = .ok (.new 65, 3) := dk_187 0 65 (dk_at dksJ31_remove_0 11 rfl rfl)
theorem dJ31_remove_14 : decode cJ31_remove 14 = .ok (.dup, 1) := dk_89 (dk_at dksJ31_remove_0 14 rfl rfl)
theorem dJ31_remove_15 : decode cJ31_remove 15 = .ok (.invokespecial 67, 3) := dk_183 0 67 (dk_at dksJ31_remove_0 15 rfl rfl)
theorem dJ31_remove_18 : decode cJ31_remove 18 = .ok (.athrow, 1) := dk_191 (dk_at dksJ31_remove_0 18 rfl rfl)
theorem dJ31_remove_19 : decode cJ31_remove 19 = .ok (.aload_n 0, 1) := dk_42 (dk_at dksJ31_remove_0 19 rfl rfl)
theorem dJ31_remove_20 : decode cJ31_remove 20 = .ok (.getfield 46, 3) := dk_180 0 46 (dk_at dksJ31_remove_0 20 rfl rfl)
theorem dJ31_remove_23 : decode cJ31_remove 23 = .ok (.getfield 49, 3) := dk_180 0 49 (dk_at dksJ31_remove_1 0 rfl rfl)
theorem dJ31_remove_26 : decode cJ31_remove 26 = .ok (.astore_n 1, 1) := dk_76 (dk_at dksJ31_remove_1 3 rfl rfl)
theorem dJ31_remove_27 : decode cJ31_remove 27 = .ok (.aload_n 0, 1) := dk_42 (dk_at dksJ31_remove_1 4 rfl rfl)
theorem dJ31_remove_28 : decode cJ31_remove 28 = .ok (.getfield 1, 3) := dk_180 0 1 (dk_at dksJ31_remove_1 5 rfl rfl)
theorem dJ31_remove_31 : decode cJ31_remove 31 = .ok (.aload_n 0, 1) := dk_42 (dk_at dksJ31_remove_1 8 rfl rfl)
theorem dJ31_remove_32 : decode cJ31_remove 32 = .ok (.getfield 46, 3) := dk_180 0 46 (dk_at dksJ31_remove_1 9 rfl rfl)
theorem dJ31_remove_35 : decode cJ31_remove 35 = .ok (.invokevirtual 68, 3) := dk_182 0 68 (dk_at dksJ31_remove_1 12 rfl rfl)
theorem dJ31_remove_38 : decode cJ31_remove 38 = .ok (.pop, 1) := dk_87 (dk_at dksJ31_remove_1 15 rfl rfl)
theorem dJ31_remove_39 : decode cJ31_remove 39 = .ok (.aload_n 0, 1) := dk_42 (dk_at dksJ31_remove_1 16 rfl rfl)
theorem dJ31_remove_40 : decode cJ31_remove 40 = .ok (.getfield 29, 3) := dk_180 0 29 (dk_at dksJ31_remove_1 17 rfl rfl)
theorem dJ31_remove_43 : decode cJ31_remove 43 = .ok (.aload_n 0, 1) := dk_42 (dk_at dksJ31_remove_1 20 rfl rfl)
theorem dJ31_remove_44 : decode cJ31_remove 44 = .ok (.getfield 46, 3) := dk_180 0 46 (dk_at dksJ31_remove_1 21 rfl rfl)
theorem dJ31_remove_47 : decode cJ31_remove 47 = .ok (.if_acmp .ne 11, 3) := dk_166 0 11 (dk_at dksJ31_remove_2 0 rfl rfl)
theorem dJ31_remove_50 : decode cJ31_remove 50 = .ok (.aload_n 0, 1) := dk_42 (dk_at dksJ31_remove_2 3 rfl rfl)
theorem dJ31_remove_51 : decode cJ31_remove 51 = .ok (.aload_n 1, 1) := dk_43 (dk_at dksJ31_remove_2 4 rfl rfl)
theorem dJ31_remove_52 : decode cJ31_remove 52 = .ok (.putfield 29, 3) := dk_181 0 29 (dk_at dksJ31_remove_2 5 rfl rfl)
theorem dJ31_remove_55 : decode cJ31_remove 55 = .ok (.goto 13, 3) := dk_167 0 13 (dk_at dksJ31_remove_2 8 rfl rfl)
theorem dJ31_remove_58 : decode cJ31_remove 58 = .ok (.aload_n 0, 1) := dk_42 (dk_at dksJ31_remove_2 11 rfl rfl)
theorem dJ31_remove_59 : decode cJ31_remove 59 = .ok (.dup, 1) := dk_89 (dk_at dksJ31_remove_2 12 rfl rfl)
theorem dJ31_remove_60 : decode cJ31_remove 60 = .ok (.getfield 33, 3) := dk_180 0 33 (dk_at dksJ31_remove_2 13 rfl rfl)
theorem dJ31_remove_63 : decode cJ31_remove 63 = .ok (.iconst 1, 1) := dk_4 (dk_at dksJ31_remove_2 16 rfl rfl)
theorem dJ31_remove_64 : decode cJ31_remove 64 = .ok (.isub, 1) := dk_100 (dk_at dksJ31_remove_2 17 rfl rfl)
theorem dJ31_remove_65 : decode cJ31_remove 65 = .ok (.putfield 33, 3) := dk_181 0 33 (dk_at dksJ31_remove_2 18 rfl rfl)
theorem dJ31_remove_68 : decode cJ31_remove 68 = .ok (.aload_n 0, 1) := dk_42 (dk_at dksJ31_remove_2 21 rfl rfl)
theorem dJ31_remove_69 : decode cJ31_remove 69 = .ok (.aconst_null, 1) := dk_1 (dk_at dksJ31_remove_2 22 rfl rfl)
theorem dJ31_remove_70 : decode cJ31_remove 70 = .ok (.putfield 46, 3) := dk_181 0 46 (dk_at dksJ31_remove_3 0 rfl rfl)
theorem dJ31_remove_73 : decode cJ31_remove 73 = .ok (.aload_n 0, 1) := dk_42 (dk_at dksJ31_remove_3 3 rfl rfl)
theorem dJ31_remove_74 : decode cJ31_remove 74 = .ok (.dup, 1) := dk_89 (dk_at dksJ31_remove_3 4 rfl rfl)
theorem dJ31_remove_75 : decode cJ31_remove 75 = .ok (.getfield 19, 3) := dk_180 0 19 (dk_at dksJ31_remove_3 5 rfl rfl)
theorem dJ31_remove_78 : decode cJ31_remove 78 = .ok (.iconst 1, 1) := dk_4 (dk_at dksJ31_remove_3 8 rfl rfl)
theorem dJ31_remove_79 : decode cJ31_remove 79 = .ok (.iadd, 1) := dk_96 (dk_at dksJ31_remove_3 9 rfl rfl)
theorem dJ31_remove_80 : decode cJ31_remove 80 = .ok (.putfield 19, 3) := dk_181 0 19 (dk_at dksJ31_remove_3 10 rfl rfl)
theorem dJ31_remove_83 : decode cJ31_remove 83 = .ok (.return_, 1) := dk_177 (dk_at dksJ31_remove_3 13 rfl rfl)
abbrev cJ31_previous : ByteArray := prog_73_method_5_code
def yJ31_previous : MethodName := ⟨RJ31, "previous", "()Ljava/lang/Object;"⟩
def dkwJ31_previous_2 : List UInt8 := [181, 0, 29, 181, 0, 46, 42, 89, 180, 0, 33, 4, 100, 181, 0, 33, 42, 180, 0, 46, 180, 0, 52, 176]
abbrev dktJ31_previous_2 : List UInt8 := dkwJ31_previous_2 ++ []
def dkwJ31_previous_1 : List UInt8 := [180, 0, 29, 199, 0, 13, 42, 180, 0, 1, 180, 0, 59, 167, 0, 10, 42, 180, 0, 29, 180, 0, 62, 90]
abbrev dktJ31_previous_1 : List UInt8 := dkwJ31_previous_1 ++ dktJ31_previous_2
def dkwJ31_previous_0 : List UInt8 := [42, 182, 0, 36, 42, 182, 0, 56, 154, 0, 11, 187, 0, 43, 89, 183, 0, 45, 191, 42, 42, 42]
abbrev dktJ31_previous_0 : List UInt8 := dkwJ31_previous_0 ++ dktJ31_previous_1
theorem dksJ31_previous_0 : cJ31_previous.data.toList.drop 0 = dktJ31_previous_0 := by decide +kernel
theorem dksJ31_previous_1 : cJ31_previous.data.toList.drop 22 = dktJ31_previous_1 := dk_seg dksJ31_previous_0 22 rfl rfl
theorem dksJ31_previous_2 : cJ31_previous.data.toList.drop 46 = dktJ31_previous_2 := dk_seg dksJ31_previous_1 24 rfl rfl
theorem dJ31_previous_0 : decode cJ31_previous 0 = .ok (.aload_n 0, 1) := dk_42 (dk_at dksJ31_previous_0 0 rfl rfl)
theorem dJ31_previous_1 : decode cJ31_previous 1 = .ok (.invokevirtual 36, 3) := dk_182 0 36 (dk_at dksJ31_previous_0 1 rfl rfl)
theorem dJ31_previous_4 : decode cJ31_previous 4 = .ok (.aload_n 0, 1) := dk_42 (dk_at dksJ31_previous_0 4 rfl rfl)
theorem dJ31_previous_5 : decode cJ31_previous 5 = .ok (.invokevirtual 56, 3) := dk_182 0 56 (dk_at dksJ31_previous_0 5 rfl rfl)
theorem dJ31_previous_8 : decode cJ31_previous 8 = .ok (.ifCond .ne 11, 3) := dk_154 0 11 (dk_at dksJ31_previous_0 8 rfl rfl)
theorem dJ31_previous_11 : decode cJ31_previous 11 = .ok (.new 43, 3) := dk_187 0 43 (dk_at dksJ31_previous_0 11 rfl rfl)
theorem dJ31_previous_14 : decode cJ31_previous 14 = .ok (.dup, 1) := dk_89 (dk_at dksJ31_previous_0 14 rfl rfl)
theorem dJ31_previous_15 : decode cJ31_previous 15 = .ok (.invokespecial 45, 3) := dk_183 0 45 (dk_at dksJ31_previous_0 15 rfl rfl)
theorem dJ31_previous_18 : decode cJ31_previous 18 = .ok (.athrow, 1) := dk_191 (dk_at dksJ31_previous_0 18 rfl rfl)
theorem dJ31_previous_19 : decode cJ31_previous 19 = .ok (.aload_n 0, 1) := dk_42 (dk_at dksJ31_previous_0 19 rfl rfl)
theorem dJ31_previous_20 : decode cJ31_previous 20 = .ok (.aload_n 0, 1) := dk_42 (dk_at dksJ31_previous_0 20 rfl rfl)
theorem dJ31_previous_21 : decode cJ31_previous 21 = .ok (.aload_n 0, 1) := dk_42 (dk_at dksJ31_previous_0 21 rfl rfl)
theorem dJ31_previous_22 : decode cJ31_previous 22 = .ok (.getfield 29, 3) := dk_180 0 29 (dk_at dksJ31_previous_1 0 rfl rfl)
theorem dJ31_previous_25 : decode cJ31_previous 25 = .ok (.ifnonnull 13, 3) := dk_199 0 13 (dk_at dksJ31_previous_1 3 rfl rfl)
theorem dJ31_previous_28 : decode cJ31_previous 28 = .ok (.aload_n 0, 1) := dk_42 (dk_at dksJ31_previous_1 6 rfl rfl)
theorem dJ31_previous_29 : decode cJ31_previous 29 = .ok (.getfield 1, 3) := dk_180 0 1 (dk_at dksJ31_previous_1 7 rfl rfl)
theorem dJ31_previous_32 : decode cJ31_previous 32 = .ok (.getfield 59, 3) := dk_180 0 59 (dk_at dksJ31_previous_1 10 rfl rfl)
theorem dJ31_previous_35 : decode cJ31_previous 35 = .ok (.goto 10, 3) := dk_167 0 10 (dk_at dksJ31_previous_1 13 rfl rfl)
theorem dJ31_previous_38 : decode cJ31_previous 38 = .ok (.aload_n 0, 1) := dk_42 (dk_at dksJ31_previous_1 16 rfl rfl)
theorem dJ31_previous_39 : decode cJ31_previous 39 = .ok (.getfield 29, 3) := dk_180 0 29 (dk_at dksJ31_previous_1 17 rfl rfl)
theorem dJ31_previous_42 : decode cJ31_previous 42 = .ok (.getfield 62, 3) := dk_180 0 62 (dk_at dksJ31_previous_1 20 rfl rfl)
theorem dJ31_previous_45 : decode cJ31_previous 45 = .ok (.dup_x1, 1) := dk_90 (dk_at dksJ31_previous_1 23 rfl rfl)
theorem dJ31_previous_46 : decode cJ31_previous 46 = .ok (.putfield 29, 3) := dk_181 0 29 (dk_at dksJ31_previous_2 0 rfl rfl)
theorem dJ31_previous_49 : decode cJ31_previous 49 = .ok (.putfield 46, 3) := dk_181 0 46 (dk_at dksJ31_previous_2 3 rfl rfl)
theorem dJ31_previous_52 : decode cJ31_previous 52 = .ok (.aload_n 0, 1) := dk_42 (dk_at dksJ31_previous_2 6 rfl rfl)
theorem dJ31_previous_53 : decode cJ31_previous 53 = .ok (.dup, 1) := dk_89 (dk_at dksJ31_previous_2 7 rfl rfl)
theorem dJ31_previous_54 : decode cJ31_previous 54 = .ok (.getfield 33, 3) := dk_180 0 33 (dk_at dksJ31_previous_2 8 rfl rfl)
theorem dJ31_previous_57 : decode cJ31_previous 57 = .ok (.iconst 1, 1) := dk_4 (dk_at dksJ31_previous_2 11 rfl rfl)
theorem dJ31_previous_58 : decode cJ31_previous 58 = .ok (.isub, 1) := dk_100 (dk_at dksJ31_previous_2 12 rfl rfl)
theorem dJ31_previous_59 : decode cJ31_previous 59 = .ok (.putfield 33, 3) := dk_181 0 33 (dk_at dksJ31_previous_2 13 rfl rfl)
theorem dJ31_previous_62 : decode cJ31_previous 62 = .ok (.aload_n 0, 1) := dk_42 (dk_at dksJ31_previous_2 16 rfl rfl)
theorem dJ31_previous_63 : decode cJ31_previous 63 = .ok (.getfield 46, 3) := dk_180 0 46 (dk_at dksJ31_previous_2 17 rfl rfl)
theorem dJ31_previous_66 : decode cJ31_previous 66 = .ok (.getfield 52, 3) := dk_180 0 52 (dk_at dksJ31_previous_2 20 rfl rfl)
theorem dJ31_previous_69 : decode cJ31_previous 69 = .ok (.areturn, 1) := dk_176 (dk_at dksJ31_previous_2 23 rfl rfl)
abbrev cJ31_hasPrevious : ByteArray := prog_73_method_4_code
def yJ31_hasPrevious : MethodName := ⟨RJ31, "hasPrevious", "()Z"⟩
def dkwJ31_hasPrevious_0 : List UInt8 := [42, 180, 0, 33, 158, 0, 7, 4, 167, 0, 4, 3, 172]
abbrev dktJ31_hasPrevious_0 : List UInt8 := dkwJ31_hasPrevious_0 ++ []
theorem dksJ31_hasPrevious_0 : cJ31_hasPrevious.data.toList.drop 0 = dktJ31_hasPrevious_0 := by decide +kernel
theorem dJ31_hasPrevious_0 : decode cJ31_hasPrevious 0 = .ok (.aload_n 0, 1) := dk_42 (dk_at dksJ31_hasPrevious_0 0 rfl rfl)
theorem dJ31_hasPrevious_1 : decode cJ31_hasPrevious 1 = .ok (.getfield 33, 3) := dk_180 0 33 (dk_at dksJ31_hasPrevious_0 1 rfl rfl)
theorem dJ31_hasPrevious_4 : decode cJ31_hasPrevious 4 = .ok (.ifCond .le 7, 3) := dk_158 0 7 (dk_at dksJ31_hasPrevious_0 4 rfl rfl)
theorem dJ31_hasPrevious_7 : decode cJ31_hasPrevious 7 = .ok (.iconst 1, 1) := dk_4 (dk_at dksJ31_hasPrevious_0 7 rfl rfl)
theorem dJ31_hasPrevious_8 : decode cJ31_hasPrevious 8 = .ok (.goto 4, 3) := dk_167 0 4 (dk_at dksJ31_hasPrevious_0 8 rfl rfl)
theorem dJ31_hasPrevious_11 : decode cJ31_hasPrevious 11 = .ok (.iconst 0, 1) := dk_3 (dk_at dksJ31_hasPrevious_0 11 rfl rfl)
theorem dJ31_hasPrevious_12 : decode cJ31_hasPrevious 12 = .ok (.ireturn, 1) := dk_172 (dk_at dksJ31_hasPrevious_0 12 rfl rfl)
abbrev cJ31_set : ByteArray := prog_73_method_9_code
def yJ31_set : MethodName := ⟨RJ31, "set", "(Ljava/lang/Object;)V"⟩
def dkwJ31_set_1 : List UInt8 := [181, 0, 52, 177]
abbrev dktJ31_set_1 : List UInt8 := dkwJ31_set_1 ++ []
def dkwJ31_set_0 : List UInt8 := [42, 180, 0, 46, 199, 0, 11, 187, 0, 65, 89, 183, 0, 67, 191, 42, 182, 0, 36, 42, 180, 0, 46, 43]
abbrev dktJ31_set_0 : List UInt8 := dkwJ31_set_0 ++ dktJ31_set_1
theorem dksJ31_set_0 : cJ31_set.data.toList.drop 0 = dktJ31_set_0 := by decide +kernel
theorem dksJ31_set_1 : cJ31_set.data.toList.drop 24 = dktJ31_set_1 := dk_seg dksJ31_set_0 24 rfl rfl
theorem dJ31_set_0 : decode cJ31_set 0 = .ok (.aload_n 0, 1) := dk_42 (dk_at dksJ31_set_0 0 rfl rfl)
theorem dJ31_set_1 : decode cJ31_set 1 = .ok (.getfield 46, 3) := dk_180 0 46 (dk_at dksJ31_set_0 1 rfl rfl)
theorem dJ31_set_4 : decode cJ31_set 4 = .ok (.ifnonnull 11, 3) := dk_199 0 11 (dk_at dksJ31_set_0 4 rfl rfl)
theorem dJ31_set_7 : decode cJ31_set 7 = .ok (.new 65, 3) := dk_187 0 65 (dk_at dksJ31_set_0 7 rfl rfl)
theorem dJ31_set_10 : decode cJ31_set 10 = .ok (.dup, 1) := dk_89 (dk_at dksJ31_set_0 10 rfl rfl)
theorem dJ31_set_11 : decode cJ31_set 11 = .ok (.invokespecial 67, 3) := dk_183 0 67 (dk_at dksJ31_set_0 11 rfl rfl)
theorem dJ31_set_14 : decode cJ31_set 14 = .ok (.athrow, 1) := dk_191 (dk_at dksJ31_set_0 14 rfl rfl)
theorem dJ31_set_15 : decode cJ31_set 15 = .ok (.aload_n 0, 1) := dk_42 (dk_at dksJ31_set_0 15 rfl rfl)
theorem dJ31_set_16 : decode cJ31_set 16 = .ok (.invokevirtual 36, 3) := dk_182 0 36 (dk_at dksJ31_set_0 16 rfl rfl)
theorem dJ31_set_19 : decode cJ31_set 19 = .ok (.aload_n 0, 1) := dk_42 (dk_at dksJ31_set_0 19 rfl rfl)
theorem dJ31_set_20 : decode cJ31_set 20 = .ok (.getfield 46, 3) := dk_180 0 46 (dk_at dksJ31_set_0 20 rfl rfl)
theorem dJ31_set_23 : decode cJ31_set 23 = .ok (.aload_n 1, 1) := dk_43 (dk_at dksJ31_set_0 23 rfl rfl)
theorem dJ31_set_24 : decode cJ31_set 24 = .ok (.putfield 52, 3) := dk_181 0 52 (dk_at dksJ31_set_1 0 rfl rfl)
theorem dJ31_set_27 : decode cJ31_set 27 = .ok (.return_, 1) := dk_177 (dk_at dksJ31_set_1 3 rfl rfl)
theorem q90 : (Jvm.Cond.initialized "java/util/LinkedList$ListItr") ∈ lw_all := lw_g (lw_at lw_m1 43 rfl) rfl
theorem q480 : (Jvm.Cond.fieldLink "java/util/LinkedList$ListItr" (13 : Nat) "java/util/LinkedList" "modCount" "I") ∈ lw_all := lw_g (lw_at lw_m2 193 rfl) rfl
theorem q505 : (Jvm.Cond.fieldLink "java/util/LinkedList$ListItr" (22 : Nat) "java/util/LinkedList" "size" "I") ∈ lw_all := lw_g (lw_at lw_m2 218 rfl) rfl
theorem q508 : (Jvm.Cond.fieldLink "java/util/LinkedList$ListItr" (59 : Nat) "java/util/LinkedList" "last" "Ljava/util/LinkedList$Node;") ∈ lw_all := lw_g (lw_at lw_m2 221 rfl) rfl
theorem q703 : (Jvm.Cond.castable "java/util/LinkedList$ListItr" "java/util/Iterator") ∈ lw_tbl := lw_at lw_m3 176 rfl
theorem q704 : (Jvm.Cond.selects "java/util/LinkedList$ListItr" ({ cls := "java/util/Iterator", name := "hasNext", desc := "()Z" } : Jvm.MethodName) ({ cls := "java/util/LinkedList$ListItr", name := "hasNext", desc := "()Z" } : Jvm.MethodName)) ∈ lw_all := lw_g (lw_at lw_m3 177 rfl) rfl
theorem q705 : (Jvm.Cond.unhidden "java/util/LinkedList$ListItr" "hasNext" "()Z") ∈ lw_tbl := lw_at lw_m3 178 rfl
theorem q706 : (Jvm.Cond.instanceMethod ({ cls := "java/util/LinkedList$ListItr", name := "hasNext", desc := "()Z" } : Jvm.MethodName)) ∈ lw_all := lw_g (lw_at lw_m3 179 rfl) rfl
theorem q707 : (Jvm.Cond.publicMethod ({ cls := "java/util/LinkedList$ListItr", name := "hasNext", desc := "()Z" } : Jvm.MethodName)) ∈ lw_tbl := lw_at lw_m3 180 rfl
theorem q708 : (Jvm.Cond.code ({ cls := "java/util/LinkedList$ListItr", name := "hasNext", desc := "()Z" } : Jvm.MethodName) prog_73_method_2_code (1 : Nat) (Option.some Jvm.ClassFile.FieldType.boolean)) ∈ lw_all := lw_g (lw_at lw_m3 181 rfl) rfl
theorem q856 : (Jvm.Cond.selects "java/util/LinkedList$ListItr" ({ cls := "java/lang/Object", name := "getClass", desc := "()Ljava/lang/Class;" } : Jvm.MethodName) ({ cls := "java/lang/Object", name := "getClass", desc := "()Ljava/lang/Class;" } : Jvm.MethodName)) ∈ lw_all := lw_g (lw_at lw_m4 89 rfl) rfl
theorem q953 : (Jvm.Cond.selects "java/util/LinkedList$ListItr" ({ cls := "java/util/Iterator", name := "next", desc := "()Ljava/lang/Object;" } : Jvm.MethodName) ({ cls := "java/util/LinkedList$ListItr", name := "next", desc := "()Ljava/lang/Object;" } : Jvm.MethodName)) ∈ lw_all := lw_g (lw_at lw_m4 186 rfl) rfl
theorem q954 : (Jvm.Cond.unhidden "java/util/LinkedList$ListItr" "next" "()Ljava/lang/Object;") ∈ lw_tbl := lw_at lw_m4 187 rfl
theorem q955 : (Jvm.Cond.instanceMethod ({ cls := "java/util/LinkedList$ListItr", name := "next", desc := "()Ljava/lang/Object;" } : Jvm.MethodName)) ∈ lw_all := lw_g (lw_at lw_m4 188 rfl) rfl
theorem q956 : (Jvm.Cond.publicMethod ({ cls := "java/util/LinkedList$ListItr", name := "next", desc := "()Ljava/lang/Object;" } : Jvm.MethodName)) ∈ lw_tbl := lw_at lw_m4 189 rfl
theorem q957 : (Jvm.Cond.code ({ cls := "java/util/LinkedList$ListItr", name := "next", desc := "()Ljava/lang/Object;" } : Jvm.MethodName) prog_73_method_3_code (1 : Nat) (Option.some (Jvm.ClassFile.FieldType.object "java/lang/Object"))) ∈ lw_all := lw_g (lw_at lw_m4 190 rfl) rfl
theorem q958 : (Jvm.Cond.methodLink "java/util/LinkedList$ListItr" (36 : Nat) ({ cls := "java/util/LinkedList$ListItr", name := "checkForComodification", desc := "()V" } : Jvm.MethodName)) ∈ lw_all := lw_g (lw_at lw_m4 191 rfl) rfl
theorem q959 : (Jvm.Cond.instanceMethod ({ cls := "java/util/LinkedList$ListItr", name := "checkForComodification", desc := "()V" } : Jvm.MethodName)) ∈ lw_all := lw_g (lw_at lw_m4 192 rfl) rfl
theorem q960 : (Jvm.Cond.selects "java/util/LinkedList$ListItr" ({ cls := "java/util/LinkedList$ListItr", name := "checkForComodification", desc := "()V" } : Jvm.MethodName) ({ cls := "java/util/LinkedList$ListItr", name := "checkForComodification", desc := "()V" } : Jvm.MethodName)) ∈ lw_all := lw_g (lw_at lw_m4 193 rfl) rfl
theorem q961 : (Jvm.Cond.code ({ cls := "java/util/LinkedList$ListItr", name := "checkForComodification", desc := "()V" } : Jvm.MethodName) prog_73_method_12_code (1 : Nat) (Option.none : Option Jvm.ClassFile.FieldType)) ∈ lw_all := lw_g (lw_at lw_m4 194 rfl) rfl
theorem q962 : (Jvm.Cond.methodLink "java/util/LinkedList$ListItr" (39 : Nat) ({ cls := "java/util/LinkedList$ListItr", name := "hasNext", desc := "()Z" } : Jvm.MethodName)) ∈ lw_all := lw_g (lw_at lw_m4 195 rfl) rfl
theorem q963 : (Jvm.Cond.classLink "java/util/LinkedList$ListItr" (43 : Nat) "java/util/NoSuchElementException") ∈ lw_all := lw_g (lw_at lw_m4 196 rfl) rfl
theorem q964 : (Jvm.Cond.methodLink "java/util/LinkedList$ListItr" (45 : Nat) ({ cls := "java/util/NoSuchElementException", name := "<init>", desc := "()V" } : Jvm.MethodName)) ∈ lw_all := lw_g (lw_at lw_m4 197 rfl) rfl
theorem q1425 : (Jvm.Cond.instantiable "java/util/LinkedList$ListItr" (5 : Nat)) ∈ lw_all := lw_g (lw_at lw_m6 178 rfl) rfl
theorem q1427 : (Jvm.Cond.instanceMethod ({ cls := "java/util/LinkedList$ListItr", name := "<init>", desc := "(Ljava/util/LinkedList;I)V" } : Jvm.MethodName)) ∈ lw_all := lw_g (lw_at lw_m6 180 rfl) rfl
theorem q1428 : (Jvm.Cond.code ({ cls := "java/util/LinkedList$ListItr", name := "<init>", desc := "(Ljava/util/LinkedList;I)V" } : Jvm.MethodName) prog_73_method_1_code (3 : Nat) (Option.none : Option Jvm.ClassFile.FieldType)) ∈ lw_all := lw_g (lw_at lw_m6 181 rfl) rfl
theorem q1429 : (Jvm.Cond.methodLink "java/util/LinkedList$ListItr" (7 : Nat) ({ cls := "java/lang/Object", name := "<init>", desc := "()V" } : Jvm.MethodName)) ∈ lw_all := lw_g (lw_at lw_m6 182 rfl) rfl
theorem q1430 : (Jvm.Cond.methodLink "java/util/LinkedList$ListItr" (25 : Nat) ({ cls := "java/util/LinkedList", name := "node", desc := "(I)Ljava/util/LinkedList$Node;" } : Jvm.MethodName)) ∈ lw_all := lw_g (lw_at lw_m6 183 rfl) rfl
theorem q1431 : (Jvm.Cond.fieldLink "java/util/LinkedList$ListItr" (46 : Nat) "java/util/LinkedList$ListItr" "lastReturned" "Ljava/util/LinkedList$Node;") ∈ lw_all := lw_g (lw_at lw_m6 184 rfl) rfl
theorem q1432 : (Jvm.Cond.fieldLink "java/util/LinkedList$ListItr" (29 : Nat) "java/util/LinkedList$ListItr" "next" "Ljava/util/LinkedList$Node;") ∈ lw_all := lw_g (lw_at lw_m6 185 rfl) rfl
theorem q1433 : (Jvm.Cond.fieldLink "java/util/LinkedList$ListItr" (33 : Nat) "java/util/LinkedList$ListItr" "nextIndex" "I") ∈ lw_all := lw_g (lw_at lw_m6 186 rfl) rfl
theorem q1434 : (Jvm.Cond.fieldLink "java/util/LinkedList$ListItr" (19 : Nat) "java/util/LinkedList$ListItr" "expectedModCount" "I") ∈ lw_all := lw_g (lw_at lw_m6 187 rfl) rfl
theorem q1435 : (Jvm.Cond.fieldLink "java/util/LinkedList$ListItr" (1 : Nat) "java/util/LinkedList$ListItr" "this$0" "Ljava/util/LinkedList;") ∈ lw_all := lw_g (lw_at lw_m6 188 rfl) rfl
theorem q1436 : (Jvm.Cond.lays "java/util/LinkedList$ListItr" "java/util/LinkedList$ListItr" "lastReturned" "Ljava/util/LinkedList$Node;") ∈ lw_all := lw_g (lw_at lw_m6 189 rfl) rfl
theorem q1437 : (Jvm.Cond.soleField "java/util/LinkedList$ListItr" "lastReturned") ∈ lw_all := lw_g (lw_at lw_m6 190 rfl) rfl
theorem q1438 : (Jvm.Cond.lays "java/util/LinkedList$ListItr" "java/util/LinkedList$ListItr" "next" "Ljava/util/LinkedList$Node;") ∈ lw_all := lw_g (lw_at lw_m6 191 rfl) rfl
theorem q1439 : (Jvm.Cond.soleField "java/util/LinkedList$ListItr" "next") ∈ lw_all := lw_g (lw_at lw_m6 192 rfl) rfl
theorem q1440 : (Jvm.Cond.lays "java/util/LinkedList$ListItr" "java/util/LinkedList$ListItr" "nextIndex" "I") ∈ lw_all := lw_g (lw_at lw_m6 193 rfl) rfl
theorem q1441 : (Jvm.Cond.soleField "java/util/LinkedList$ListItr" "nextIndex") ∈ lw_all := lw_g (lw_at lw_m6 194 rfl) rfl
theorem q1442 : (Jvm.Cond.lays "java/util/LinkedList$ListItr" "java/util/LinkedList$ListItr" "expectedModCount" "I") ∈ lw_all := lw_g (lw_at lw_m6 195 rfl) rfl
theorem q1443 : (Jvm.Cond.soleField "java/util/LinkedList$ListItr" "expectedModCount") ∈ lw_all := lw_g (lw_at lw_m6 196 rfl) rfl
theorem q1444 : (Jvm.Cond.laysFinal "java/util/LinkedList$ListItr" "java/util/LinkedList$ListItr" "this$0" "Ljava/util/LinkedList;") ∈ lw_all := lw_g (lw_at lw_m6 197 rfl) rfl
theorem q1445 : (Jvm.Cond.soleField "java/util/LinkedList$ListItr" "this$0") ∈ lw_all := lw_g (lw_at lw_m6 198 rfl) rfl
theorem q1446 : (Jvm.Cond.superclass "java/util/LinkedList$ListItr" "java/lang/Object") ∈ lw_all := lw_g (lw_at lw_m6 199 rfl) rfl
theorem q1541 : (Jvm.Cond.selects "java/util/LinkedList$ListItr" ({ cls := "java/util/Iterator", name := "remove", desc := "()V" } : Jvm.MethodName) ({ cls := "java/util/LinkedList$ListItr", name := "remove", desc := "()V" } : Jvm.MethodName)) ∈ lw_all := lw_g (lw_at lw_m7 54 rfl) rfl
theorem q1542 : (Jvm.Cond.unhidden "java/util/LinkedList$ListItr" "remove" "()V") ∈ lw_tbl := lw_at lw_m7 55 rfl
theorem q1543 : (Jvm.Cond.instanceMethod ({ cls := "java/util/LinkedList$ListItr", name := "remove", desc := "()V" } : Jvm.MethodName)) ∈ lw_all := lw_g (lw_at lw_m7 56 rfl) rfl
theorem q1544 : (Jvm.Cond.publicMethod ({ cls := "java/util/LinkedList$ListItr", name := "remove", desc := "()V" } : Jvm.MethodName)) ∈ lw_tbl := lw_at lw_m7 57 rfl
theorem q1545 : (Jvm.Cond.code ({ cls := "java/util/LinkedList$ListItr", name := "remove", desc := "()V" } : Jvm.MethodName) prog_73_method_8_code (2 : Nat) (Option.none : Option Jvm.ClassFile.FieldType)) ∈ lw_all := lw_g (lw_at lw_m7 58 rfl) rfl
theorem q1546 : (Jvm.Cond.classLink "java/util/LinkedList$ListItr" (65 : Nat) "java/lang/IllegalStateException") ∈ lw_all := lw_g (lw_at lw_m7 59 rfl) rfl
theorem q1547 : (Jvm.Cond.methodLink "java/util/LinkedList$ListItr" (67 : Nat) ({ cls := "java/lang/IllegalStateException", name := "<init>", desc := "()V" } : Jvm.MethodName)) ∈ lw_all := lw_g (lw_at lw_m7 60 rfl) rfl
theorem q1548 : (Jvm.Cond.methodLink "java/util/LinkedList$ListItr" (68 : Nat) ({ cls := "java/util/LinkedList", name := "unlink", desc := "(Ljava/util/LinkedList$Node;)Ljava/lang/Object;" } : Jvm.MethodName)) ∈ lw_all := lw_g (lw_at lw_m7 61 rfl) rfl
theorem q1648 : (Jvm.Cond.fieldLink "java/util/LinkedList$ListItr" (52 : Nat) "java/util/LinkedList$Node" "item" "Ljava/lang/Object;") ∈ lw_all := lw_g (lw_at lw_m7 161 rfl) rfl
theorem q1651 : (Jvm.Cond.fieldLink "java/util/LinkedList$ListItr" (49 : Nat) "java/util/LinkedList$Node" "next" "Ljava/util/LinkedList$Node;") ∈ lw_all := lw_g (lw_at lw_m7 164 rfl) rfl
theorem q1654 : (Jvm.Cond.fieldLink "java/util/LinkedList$ListItr" (62 : Nat) "java/util/LinkedList$Node" "prev" "Ljava/util/LinkedList$Node;") ∈ lw_all := lw_g (lw_at lw_m7 167 rfl) rfl
theorem q1897 : (Jvm.Cond.castable "java/util/LinkedList$ListItr" "java/util/ListIterator") ∈ lw_tbl := lw_at lw_m8 170 rfl
theorem q1898 : (Jvm.Cond.selects "java/util/LinkedList$ListItr" ({ cls := "java/util/ListIterator", name := "next", desc := "()Ljava/lang/Object;" } : Jvm.MethodName) ({ cls := "java/util/LinkedList$ListItr", name := "next", desc := "()Ljava/lang/Object;" } : Jvm.MethodName)) ∈ lw_all := lw_g (lw_at lw_m8 171 rfl) rfl
theorem q1931 : (Jvm.Cond.selects "java/util/LinkedList$ListItr" ({ cls := "java/util/ListIterator", name := "previous", desc := "()Ljava/lang/Object;" } : Jvm.MethodName) ({ cls := "java/util/LinkedList$ListItr", name := "previous", desc := "()Ljava/lang/Object;" } : Jvm.MethodName)) ∈ lw_all := lw_g (lw_at lw_m8 204 rfl) rfl
theorem q1932 : (Jvm.Cond.unhidden "java/util/LinkedList$ListItr" "previous" "()Ljava/lang/Object;") ∈ lw_tbl := lw_at lw_m8 205 rfl
theorem q1933 : (Jvm.Cond.instanceMethod ({ cls := "java/util/LinkedList$ListItr", name := "previous", desc := "()Ljava/lang/Object;" } : Jvm.MethodName)) ∈ lw_all := lw_g (lw_at lw_m8 206 rfl) rfl
theorem q1934 : (Jvm.Cond.publicMethod ({ cls := "java/util/LinkedList$ListItr", name := "previous", desc := "()Ljava/lang/Object;" } : Jvm.MethodName)) ∈ lw_tbl := lw_at lw_m8 207 rfl
theorem q1935 : (Jvm.Cond.code ({ cls := "java/util/LinkedList$ListItr", name := "previous", desc := "()Ljava/lang/Object;" } : Jvm.MethodName) prog_73_method_5_code (1 : Nat) (Option.some (Jvm.ClassFile.FieldType.object "java/lang/Object"))) ∈ lw_all := lw_g (lw_at lw_m8 208 rfl) rfl
theorem q1936 : (Jvm.Cond.methodLink "java/util/LinkedList$ListItr" (56 : Nat) ({ cls := "java/util/LinkedList$ListItr", name := "hasPrevious", desc := "()Z" } : Jvm.MethodName)) ∈ lw_all := lw_g (lw_at lw_m8 209 rfl) rfl
theorem q1937 : (Jvm.Cond.instanceMethod ({ cls := "java/util/LinkedList$ListItr", name := "hasPrevious", desc := "()Z" } : Jvm.MethodName)) ∈ lw_all := lw_g (lw_at lw_m8 210 rfl) rfl
theorem q1938 : (Jvm.Cond.selects "java/util/LinkedList$ListItr" ({ cls := "java/util/LinkedList$ListItr", name := "hasPrevious", desc := "()Z" } : Jvm.MethodName) ({ cls := "java/util/LinkedList$ListItr", name := "hasPrevious", desc := "()Z" } : Jvm.MethodName)) ∈ lw_all := lw_g (lw_at lw_m8 211 rfl) rfl
theorem q1939 : (Jvm.Cond.code ({ cls := "java/util/LinkedList$ListItr", name := "hasPrevious", desc := "()Z" } : Jvm.MethodName) prog_73_method_4_code (1 : Nat) (Option.some Jvm.ClassFile.FieldType.boolean)) ∈ lw_all := lw_g (lw_at lw_m8 212 rfl) rfl
theorem q1974 : (Jvm.Cond.selects "java/util/LinkedList$ListItr" ({ cls := "java/util/ListIterator", name := "set", desc := "(Ljava/lang/Object;)V" } : Jvm.MethodName) ({ cls := "java/util/LinkedList$ListItr", name := "set", desc := "(Ljava/lang/Object;)V" } : Jvm.MethodName)) ∈ lw_all := lw_g (lw_at lw_m9 7 rfl) rfl
theorem q1975 : (Jvm.Cond.unhidden "java/util/LinkedList$ListItr" "set" "(Ljava/lang/Object;)V") ∈ lw_tbl := lw_at lw_m9 8 rfl
theorem q1976 : (Jvm.Cond.instanceMethod ({ cls := "java/util/LinkedList$ListItr", name := "set", desc := "(Ljava/lang/Object;)V" } : Jvm.MethodName)) ∈ lw_all := lw_g (lw_at lw_m9 9 rfl) rfl
theorem q1977 : (Jvm.Cond.publicMethod ({ cls := "java/util/LinkedList$ListItr", name := "set", desc := "(Ljava/lang/Object;)V" } : Jvm.MethodName)) ∈ lw_tbl := lw_at lw_m9 10 rfl
theorem q1978 : (Jvm.Cond.code ({ cls := "java/util/LinkedList$ListItr", name := "set", desc := "(Ljava/lang/Object;)V" } : Jvm.MethodName) prog_73_method_9_code (2 : Nat) (Option.none : Option Jvm.ClassFile.FieldType)) ∈ lw_all := lw_g (lw_at lw_m9 11 rfl) rfl
theorem q2544 : (Jvm.Cond.selects "java/util/LinkedList$ListItr" ({ cls := "java/util/LinkedList$ListItr", name := "hasNext", desc := "()Z" } : Jvm.MethodName) ({ cls := "java/util/LinkedList$ListItr", name := "hasNext", desc := "()Z" } : Jvm.MethodName)) ∈ lw_all := lw_g (lw_at lw_m11 97 rfl) rfl
theorem q2579 : (Jvm.Cond.castable "java/util/LinkedList$ListItr" "java/lang/Object") ∈ lw_tbl := lw_at lw_m11 132 rfl
theorem in_J31 : ∀ w ∈ wsJ310, w ∈ lw_all := lw_in wsJ310 [1436, 1438, 1440, 1442, 1444] (by decide +kernel) (by decide +kernel)

/-! java/util/Objects -/
set_option maxRecDepth 100000
def RJ32 : String := "java/util/Objects"
abbrev cJ32_checkIndex : ByteArray := prog_78_method_17_code
def yJ32_checkIndex : MethodName := ⟨RJ32, "checkIndex", "(II)I"⟩
def dkwJ32_checkIndex_0 : List UInt8 := [26, 27, 1, 184, 0, 105, 172]
abbrev dktJ32_checkIndex_0 : List UInt8 := dkwJ32_checkIndex_0 ++ []
theorem dksJ32_checkIndex_0 : cJ32_checkIndex.data.toList.drop 0 = dktJ32_checkIndex_0 := by decide +kernel
theorem dJ32_checkIndex_0 : decode cJ32_checkIndex 0 = .ok (.iload_n 0, 1) := dk_26 (dk_at dksJ32_checkIndex_0 0 rfl rfl)
theorem dJ32_checkIndex_1 : decode cJ32_checkIndex 1 = .ok (.iload_n 1, 1) := dk_27 (dk_at dksJ32_checkIndex_0 1 rfl rfl)
theorem dJ32_checkIndex_2 : decode cJ32_checkIndex 2 = .ok (.aconst_null, 1) := dk_1 (dk_at dksJ32_checkIndex_0 2 rfl rfl)
theorem dJ32_checkIndex_3 : decode cJ32_checkIndex 3 = .ok (.invokestatic 105, 3) := dk_184 0 105 (dk_at dksJ32_checkIndex_0 3 rfl rfl)
theorem dJ32_checkIndex_6 : decode cJ32_checkIndex 6 = .ok (.ireturn, 1) := dk_172 (dk_at dksJ32_checkIndex_0 6 rfl rfl)
theorem q91 : (Jvm.Cond.initialized "java/util/Objects") ∈ lw_all := lw_g (lw_at lw_m1 44 rfl) rfl
theorem q735 : (Jvm.Cond.static ({ cls := "java/util/Objects", name := "checkIndex", desc := "(II)I" } : Jvm.MethodName)) ∈ lw_all := lw_g (lw_at lw_m3 208 rfl) rfl
theorem q736 : (Jvm.Cond.code ({ cls := "java/util/Objects", name := "checkIndex", desc := "(II)I" } : Jvm.MethodName) prog_78_method_17_code (2 : Nat) (Option.some Jvm.ClassFile.FieldType.int)) ∈ lw_all := lw_g (lw_at lw_m3 209 rfl) rfl
theorem q737 : (Jvm.Cond.methodLink "java/util/Objects" (105 : Nat) ({ cls := "jdk/internal/util/Preconditions", name := "checkIndex", desc := "(IILjava/util/function/BiFunction;)I" } : Jvm.MethodName)) ∈ lw_all := lw_g (lw_at lw_m3 210 rfl) rfl

theorem q92 : (Jvm.Cond.initialized "java/util/ConcurrentModificationException") ∈ lw_all := lw_g (lw_at lw_m1 45 rfl) rfl
theorem q195 : (Jvm.Cond.selects "java/util/ConcurrentModificationException" ({ cls := "java/lang/Throwable", name := "fillInStackTrace", desc := "()Ljava/lang/Throwable;" } : Jvm.MethodName) ({ cls := "java/lang/Throwable", name := "fillInStackTrace", desc := "()Ljava/lang/Throwable;" } : Jvm.MethodName)) ∈ lw_all := lw_g (lw_at lw_m1 148 rfl) rfl
theorem q815 : (Jvm.Cond.selects "java/util/ConcurrentModificationException" ({ cls := "java/lang/Throwable", name := "toString", desc := "()Ljava/lang/String;" } : Jvm.MethodName) ({ cls := "java/lang/Throwable", name := "toString", desc := "()Ljava/lang/String;" } : Jvm.MethodName)) ∈ lw_all := lw_g (lw_at lw_m4 48 rfl) rfl
theorem q852 : (Jvm.Cond.selects "java/util/ConcurrentModificationException" ({ cls := "java/lang/Object", name := "getClass", desc := "()Ljava/lang/Class;" } : Jvm.MethodName) ({ cls := "java/lang/Object", name := "getClass", desc := "()Ljava/lang/Class;" } : Jvm.MethodName)) ∈ lw_all := lw_g (lw_at lw_m4 85 rfl) rfl
theorem q869 : (Jvm.Cond.selects "java/util/ConcurrentModificationException" ({ cls := "java/lang/Throwable", name := "getLocalizedMessage", desc := "()Ljava/lang/String;" } : Jvm.MethodName) ({ cls := "java/lang/Throwable", name := "getLocalizedMessage", desc := "()Ljava/lang/String;" } : Jvm.MethodName)) ∈ lw_all := lw_g (lw_at lw_m4 102 rfl) rfl
theorem q881 : (Jvm.Cond.selects "java/util/ConcurrentModificationException" ({ cls := "java/lang/Throwable", name := "getMessage", desc := "()Ljava/lang/String;" } : Jvm.MethodName) ({ cls := "java/lang/Throwable", name := "getMessage", desc := "()Ljava/lang/String;" } : Jvm.MethodName)) ∈ lw_all := lw_g (lw_at lw_m4 114 rfl) rfl
theorem q1490 : (Jvm.Cond.instantiable "java/util/ConcurrentModificationException" (6 : Nat)) ∈ lw_all := lw_g (lw_at lw_m7 3 rfl) rfl
theorem q1492 : (Jvm.Cond.instanceMethod ({ cls := "java/util/ConcurrentModificationException", name := "<init>", desc := "()V" } : Jvm.MethodName)) ∈ lw_all := lw_g (lw_at lw_m7 5 rfl) rfl
theorem q1493 : (Jvm.Cond.code ({ cls := "java/util/ConcurrentModificationException", name := "<init>", desc := "()V" } : Jvm.MethodName) prog_63_method_1_code (1 : Nat) (Option.none : Option Jvm.ClassFile.FieldType)) ∈ lw_all := lw_g (lw_at lw_m7 6 rfl) rfl
theorem q1494 : (Jvm.Cond.methodLink "java/util/ConcurrentModificationException" (1 : Nat) ({ cls := "java/lang/RuntimeException", name := "<init>", desc := "()V" } : Jvm.MethodName)) ∈ lw_all := lw_g (lw_at lw_m7 7 rfl) rfl
theorem q1495 : (Jvm.Cond.lays "java/util/ConcurrentModificationException" "java/lang/Throwable" "backtrace" "Ljava/lang/Object;") ∈ lw_all := lw_g (lw_at lw_m7 8 rfl) rfl
theorem q1496 : (Jvm.Cond.lays "java/util/ConcurrentModificationException" "java/lang/Throwable" "detailMessage" "Ljava/lang/String;") ∈ lw_all := lw_g (lw_at lw_m7 9 rfl) rfl
theorem q1497 : (Jvm.Cond.lays "java/util/ConcurrentModificationException" "java/lang/Throwable" "cause" "Ljava/lang/Throwable;") ∈ lw_all := lw_g (lw_at lw_m7 10 rfl) rfl
theorem q1498 : (Jvm.Cond.lays "java/util/ConcurrentModificationException" "java/lang/Throwable" "stackTrace" "[Ljava/lang/StackTraceElement;") ∈ lw_all := lw_g (lw_at lw_m7 11 rfl) rfl
theorem q1499 : (Jvm.Cond.lays "java/util/ConcurrentModificationException" "java/lang/Throwable" "depth" "I") ∈ lw_all := lw_g (lw_at lw_m7 12 rfl) rfl
theorem q1500 : (Jvm.Cond.lays "java/util/ConcurrentModificationException" "java/lang/Throwable" "suppressedExceptions" "Ljava/util/List;") ∈ lw_all := lw_g (lw_at lw_m7 13 rfl) rfl
theorem q1501 : (Jvm.Cond.superclass "java/util/ConcurrentModificationException" "java/lang/RuntimeException") ∈ lw_all := lw_g (lw_at lw_m7 14 rfl) rfl
theorem q2580 : (Jvm.Cond.castable "java/util/ConcurrentModificationException" "java/lang/Object") ∈ lw_tbl := lw_at lw_m11 133 rfl

/-! java/util/ImmutableCollections -/
set_option maxRecDepth 100000
def RJ34 : String := "java/util/ImmutableCollections"
abbrev cJ34_uoe : ByteArray := prog_65_method_2_code
def yJ34_uoe : MethodName := ⟨RJ34, "uoe", "()Ljava/lang/UnsupportedOperationException;"⟩
def dkwJ34_uoe_0 : List UInt8 := [187, 0, 7, 89, 183, 0, 9, 176]
abbrev dktJ34_uoe_0 : List UInt8 := dkwJ34_uoe_0 ++ []
theorem dksJ34_uoe_0 : cJ34_uoe.data.toList.drop 0 = dktJ34_uoe_0 := by decide +kernel
theorem dJ34_uoe_0 : decode cJ34_uoe 0 = .ok (.new 7, 3) := dk_187 0 7 (dk_at dksJ34_uoe_0 0 rfl rfl)
theorem dJ34_uoe_3 : decode cJ34_uoe 3 = .ok (.dup, 1) := dk_89 (dk_at dksJ34_uoe_0 3 rfl rfl)
theorem dJ34_uoe_4 : decode cJ34_uoe 4 = .ok (.invokespecial 9, 3) := dk_183 0 9 (dk_at dksJ34_uoe_0 4 rfl rfl)
theorem dJ34_uoe_7 : decode cJ34_uoe 7 = .ok (.areturn, 1) := dk_176 (dk_at dksJ34_uoe_0 7 rfl rfl)
theorem q93 : (Jvm.Cond.initialized "java/util/ImmutableCollections") ∈ lw_all := lw_g (lw_at lw_m1 46 rfl) rfl
theorem q1537 : (Jvm.Cond.static ({ cls := "java/util/ImmutableCollections", name := "uoe", desc := "()Ljava/lang/UnsupportedOperationException;" } : Jvm.MethodName)) ∈ lw_all := lw_g (lw_at lw_m7 50 rfl) rfl
theorem q1538 : (Jvm.Cond.code ({ cls := "java/util/ImmutableCollections", name := "uoe", desc := "()Ljava/lang/UnsupportedOperationException;" } : Jvm.MethodName) prog_65_method_2_code (0 : Nat) (Option.some (Jvm.ClassFile.FieldType.object "java/lang/UnsupportedOperationException"))) ∈ lw_all := lw_g (lw_at lw_m7 51 rfl) rfl
theorem q1539 : (Jvm.Cond.classLink "java/util/ImmutableCollections" (7 : Nat) "java/lang/UnsupportedOperationException") ∈ lw_all := lw_g (lw_at lw_m7 52 rfl) rfl
theorem q1540 : (Jvm.Cond.methodLink "java/util/ImmutableCollections" (9 : Nat) ({ cls := "java/lang/UnsupportedOperationException", name := "<init>", desc := "()V" } : Jvm.MethodName)) ∈ lw_all := lw_g (lw_at lw_m7 53 rfl) rfl
theorem q1771 : (Jvm.Cond.laysStatic "java/util/ImmutableCollections" "EMPTY_LIST" "Ljava/util/ImmutableCollections$ListN;") ∈ lw_tbl := lw_at lw_m8 44 rfl

/-! java/util/LinkedList$Node -/
set_option maxRecDepth 100000
def RJ35 : String := "java/util/LinkedList$Node"
def TJ35 : u_T := fun k => match k with
  | 0 => ("java/util/LinkedList$Node", "item", "Ljava/lang/Object;", false)
  | 1 => ("java/util/LinkedList$Node", "next", "Ljava/util/LinkedList$Node;", false)
  | _ => ("java/util/LinkedList$Node", "prev", "Ljava/util/LinkedList$Node;", false)
def tyJ35 : Nat → FieldType := fun k => match k with
  | 0 => .object "java/lang/Object"
  | 1 => .object "java/util/LinkedList$Node"
  | _ => .object "java/util/LinkedList$Node"
abbrev wsJ350 : List Cond := u_ws RJ35 TJ35 3
theorem nmJ35 : ∀ a, a < 3 → ∀ b, b < 3 → a ≠ b → (TJ35 a).2.1 ≠ (TJ35 b).2.1 := by decide +kernel
theorem tyJ35_ok : ∀ k, k < 3 → parseFieldDescriptor (TJ35 k).2.2.1 = some (tyJ35 k) := by decide +kernel
abbrev cJ35_init : ByteArray := prog_74_method_1_code
def yJ35_init : MethodName := ⟨RJ35, "<init>", "(Ljava/util/LinkedList$Node;Ljava/lang/Object;Ljava/util/LinkedList$Node;)V"⟩
def dkwJ35_init_0 : List UInt8 := [42, 183, 0, 1, 42, 44, 181, 0, 7, 42, 45, 181, 0, 13, 42, 43, 181, 0, 17, 177]
abbrev dktJ35_init_0 : List UInt8 := dkwJ35_init_0 ++ []
theorem dksJ35_init_0 : cJ35_init.data.toList.drop 0 = dktJ35_init_0 := by decide +kernel
theorem dJ35_init_0 : decode cJ35_init 0 = .ok (.aload_n 0, 1) := dk_42 (dk_at dksJ35_init_0 0 rfl rfl)
theorem dJ35_init_1 : decode cJ35_init 1 = .ok (.invokespecial 1, 3) := dk_183 0 1 (dk_at dksJ35_init_0 1 rfl rfl)
theorem dJ35_init_4 : decode cJ35_init 4 = .ok (.aload_n 0, 1) := dk_42 (dk_at dksJ35_init_0 4 rfl rfl)
theorem dJ35_init_5 : decode cJ35_init 5 = .ok (.aload_n 2, 1) := dk_44 (dk_at dksJ35_init_0 5 rfl rfl)
theorem dJ35_init_6 : decode cJ35_init 6 = .ok (.putfield 7, 3) := dk_181 0 7 (dk_at dksJ35_init_0 6 rfl rfl)
theorem dJ35_init_9 : decode cJ35_init 9 = .ok (.aload_n 0, 1) := dk_42 (dk_at dksJ35_init_0 9 rfl rfl)
theorem dJ35_init_10 : decode cJ35_init 10 = .ok (.aload_n 3, 1) := dk_45 (dk_at dksJ35_init_0 10 rfl rfl)
theorem dJ35_init_11 : decode cJ35_init 11 = .ok (.putfield 13, 3) := dk_181 0 13 (dk_at dksJ35_init_0 11 rfl rfl)
theorem dJ35_init_14 : decode cJ35_init 14 = .ok (.aload_n 0, 1) := dk_42 (dk_at dksJ35_init_0 14 rfl rfl)
theorem dJ35_init_15 : decode cJ35_init 15 = .ok (.aload_n 1, 1) := dk_43 (dk_at dksJ35_init_0 15 rfl rfl)
theorem dJ35_init_16 : decode cJ35_init 16 = .ok (.putfield 17, 3) := dk_181 0 17 (dk_at dksJ35_init_0 16 rfl rfl)
theorem dJ35_init_19 : decode cJ35_init 19 = .ok (.return_, 1) := dk_177 (dk_at dksJ35_init_0 19 rfl rfl)
theorem q96 : (Jvm.Cond.initialized "java/util/LinkedList$Node") ∈ lw_all := lw_g (lw_at lw_m1 49 rfl) rfl
theorem q857 : (Jvm.Cond.selects "java/util/LinkedList$Node" ({ cls := "java/lang/Object", name := "getClass", desc := "()Ljava/lang/Class;" } : Jvm.MethodName) ({ cls := "java/lang/Object", name := "getClass", desc := "()Ljava/lang/Class;" } : Jvm.MethodName)) ∈ lw_all := lw_g (lw_at lw_m4 90 rfl) rfl
theorem q1642 : (Jvm.Cond.instantiable "java/util/LinkedList$Node" (3 : Nat)) ∈ lw_all := lw_g (lw_at lw_m7 155 rfl) rfl
theorem q1644 : (Jvm.Cond.instanceMethod ({ cls := "java/util/LinkedList$Node", name := "<init>", desc := "(Ljava/util/LinkedList$Node;Ljava/lang/Object;Ljava/util/LinkedList$Node;)V" } : Jvm.MethodName)) ∈ lw_all := lw_g (lw_at lw_m7 157 rfl) rfl
theorem q1645 : (Jvm.Cond.code ({ cls := "java/util/LinkedList$Node", name := "<init>", desc := "(Ljava/util/LinkedList$Node;Ljava/lang/Object;Ljava/util/LinkedList$Node;)V" } : Jvm.MethodName) prog_74_method_1_code (4 : Nat) (Option.none : Option Jvm.ClassFile.FieldType)) ∈ lw_all := lw_g (lw_at lw_m7 158 rfl) rfl
theorem q1646 : (Jvm.Cond.methodLink "java/util/LinkedList$Node" (1 : Nat) ({ cls := "java/lang/Object", name := "<init>", desc := "()V" } : Jvm.MethodName)) ∈ lw_all := lw_g (lw_at lw_m7 159 rfl) rfl
theorem q1647 : (Jvm.Cond.fieldLink "java/util/LinkedList$Node" (7 : Nat) "java/util/LinkedList$Node" "item" "Ljava/lang/Object;") ∈ lw_all := lw_g (lw_at lw_m7 160 rfl) rfl
theorem q1650 : (Jvm.Cond.fieldLink "java/util/LinkedList$Node" (13 : Nat) "java/util/LinkedList$Node" "next" "Ljava/util/LinkedList$Node;") ∈ lw_all := lw_g (lw_at lw_m7 163 rfl) rfl
theorem q1653 : (Jvm.Cond.fieldLink "java/util/LinkedList$Node" (17 : Nat) "java/util/LinkedList$Node" "prev" "Ljava/util/LinkedList$Node;") ∈ lw_all := lw_g (lw_at lw_m7 166 rfl) rfl
theorem q1656 : (Jvm.Cond.lays "java/util/LinkedList$Node" "java/util/LinkedList$Node" "item" "Ljava/lang/Object;") ∈ lw_all := lw_g (lw_at lw_m7 169 rfl) rfl
theorem q1657 : (Jvm.Cond.soleField "java/util/LinkedList$Node" "item") ∈ lw_all := lw_g (lw_at lw_m7 170 rfl) rfl
theorem q1658 : (Jvm.Cond.lays "java/util/LinkedList$Node" "java/util/LinkedList$Node" "next" "Ljava/util/LinkedList$Node;") ∈ lw_all := lw_g (lw_at lw_m7 171 rfl) rfl
theorem q1659 : (Jvm.Cond.soleField "java/util/LinkedList$Node" "next") ∈ lw_all := lw_g (lw_at lw_m7 172 rfl) rfl
theorem q1660 : (Jvm.Cond.lays "java/util/LinkedList$Node" "java/util/LinkedList$Node" "prev" "Ljava/util/LinkedList$Node;") ∈ lw_all := lw_g (lw_at lw_m7 173 rfl) rfl
theorem q1661 : (Jvm.Cond.soleField "java/util/LinkedList$Node" "prev") ∈ lw_all := lw_g (lw_at lw_m7 174 rfl) rfl
theorem q1662 : (Jvm.Cond.superclass "java/util/LinkedList$Node" "java/lang/Object") ∈ lw_all := lw_g (lw_at lw_m7 175 rfl) rfl
theorem q2583 : (Jvm.Cond.castable "java/util/LinkedList$Node" "java/lang/Object") ∈ lw_tbl := lw_at lw_m11 136 rfl
theorem in_J35 : ∀ w ∈ wsJ350, w ∈ lw_all := lw_in wsJ350 [1656, 1658, 1660] (by decide +kernel) (by decide +kernel)

/-! java/util/List -/
set_option maxRecDepth 100000
def RJ36 : String := "java/util/List"
abbrev cJ36_of : ByteArray := prog_75_method_36_code
def yJ36_of : MethodName := ⟨RJ36, "of", "()Ljava/util/List;"⟩
theorem dJ36_of_0 : decode cJ36_of 0 = .ok (.getstatic 90, 3) := by decide +kernel
theorem dJ36_of_3 : decode cJ36_of 3 = .ok (.areturn, 1) := by decide +kernel
theorem q98 : (Jvm.Cond.initialized "java/util/List") ∈ lw_all := lw_g (lw_at lw_m1 51 rfl) rfl
theorem q935 : (Jvm.Cond.interfaceMethod "java/util/List" "java/util/List" "get" "(I)Ljava/lang/Object;") ∈ lw_tbl := lw_at lw_m4 168 rfl
theorem q936 : (Jvm.Cond.declares ({ cls := "java/util/List", name := "get", desc := "(I)Ljava/lang/Object;" } : Jvm.MethodName)) ∈ lw_tbl := lw_at lw_m4 169 rfl
theorem q1768 : (Jvm.Cond.static ({ cls := "java/util/List", name := "of", desc := "()Ljava/util/List;" } : Jvm.MethodName)) ∈ lw_all := lw_g (lw_at lw_m8 41 rfl) rfl
theorem q1769 : (Jvm.Cond.code ({ cls := "java/util/List", name := "of", desc := "()Ljava/util/List;" } : Jvm.MethodName) prog_75_method_36_code (0 : Nat) (Option.some (Jvm.ClassFile.FieldType.object "java/util/List"))) ∈ lw_all := lw_g (lw_at lw_m8 42 rfl) rfl
theorem q1770 : (Jvm.Cond.fieldLink "java/util/List" (90 : Nat) "java/util/ImmutableCollections" "EMPTY_LIST" "Ljava/util/ImmutableCollections$ListN;") ∈ lw_all := lw_g (lw_at lw_m8 43 rfl) rfl
theorem q1777 : (Jvm.Cond.interfaceMethod "java/util/List" "java/util/List" "size" "()I") ∈ lw_tbl := lw_at lw_m8 50 rfl
theorem q1778 : (Jvm.Cond.declares ({ cls := "java/util/List", name := "size", desc := "()I" } : Jvm.MethodName)) ∈ lw_tbl := lw_at lw_m8 51 rfl
theorem q1798 : (Jvm.Cond.interfaceMethod "java/util/List" "java/util/List" "set" "(ILjava/lang/Object;)Ljava/lang/Object;") ∈ lw_tbl := lw_at lw_m8 71 rfl
theorem q1799 : (Jvm.Cond.declares ({ cls := "java/util/List", name := "set", desc := "(ILjava/lang/Object;)Ljava/lang/Object;" } : Jvm.MethodName)) ∈ lw_tbl := lw_at lw_m8 72 rfl
theorem q1818 : (Jvm.Cond.interfaceMethod "java/util/List" "java/util/List" "listIterator" "()Ljava/util/ListIterator;") ∈ lw_tbl := lw_at lw_m8 91 rfl
theorem q1819 : (Jvm.Cond.declares ({ cls := "java/util/List", name := "listIterator", desc := "()Ljava/util/ListIterator;" } : Jvm.MethodName)) ∈ lw_tbl := lw_at lw_m8 92 rfl
theorem q1876 : (Jvm.Cond.interfaceMethod "java/util/List" "java/util/List" "listIterator" "(I)Ljava/util/ListIterator;") ∈ lw_tbl := lw_at lw_m8 149 rfl
theorem q1877 : (Jvm.Cond.declares ({ cls := "java/util/List", name := "listIterator", desc := "(I)Ljava/util/ListIterator;" } : Jvm.MethodName)) ∈ lw_tbl := lw_at lw_m8 150 rfl
theorem q1988 : (Jvm.Cond.interfaceMethod "java/util/List" "java/util/List" "iterator" "()Ljava/util/Iterator;") ∈ lw_tbl := lw_at lw_m9 21 rfl
theorem q1989 : (Jvm.Cond.declares ({ cls := "java/util/List", name := "iterator", desc := "()Ljava/util/Iterator;" } : Jvm.MethodName)) ∈ lw_tbl := lw_at lw_m9 22 rfl

/-! java/util/Collections -/
set_option maxRecDepth 100000
def RJ37 : String := "java/util/Collections"
abbrev cJ37_reverse : ByteArray := prog_62_method_11_code
def yJ37_reverse : MethodName := ⟨RJ37, "reverse", "(Ljava/util/List;)V"⟩
def dkwJ37_reverse_5 : List UInt8 := [185, 0, 78, 2, 0, 132, 4, 1, 167, 255, 218, 177]
abbrev dktJ37_reverse_5 : List UInt8 := dkwJ37_reverse_5 ++ []
def dkwJ37_reverse_4 : List UInt8 := [185, 0, 50, 1, 0, 58, 6, 44, 45, 185, 0, 54, 1, 0, 185, 0, 78, 2, 0, 45, 25, 6]
abbrev dktJ37_reverse_4 : List UInt8 := dkwJ37_reverse_4 ++ dktJ37_reverse_5
def dkwJ37_reverse_3 : List UInt8 := [3, 54, 4, 42, 185, 0, 15, 1, 0, 4, 122, 54, 5, 21, 4, 21, 5, 162, 0, 37, 44]
abbrev dktJ37_reverse_3 : List UInt8 := dkwJ37_reverse_3 ++ dktJ37_reverse_4
def dkwJ37_reverse_2 : List UInt8 := [132, 4, 255, 167, 255, 238, 167, 0, 72, 42, 185, 0, 38, 1, 0, 77, 42, 27, 185, 0, 75, 2, 0, 78]
abbrev dktJ37_reverse_2 : List UInt8 := dkwJ37_reverse_2 ++ dktJ37_reverse_3
def dkwJ37_reverse_1 : List UInt8 := [122, 62, 27, 4, 100, 54, 4, 28, 29, 162, 0, 19, 42, 28, 21, 4, 184, 0, 71, 132, 2, 1]
abbrev dktJ37_reverse_1 : List UInt8 := dkwJ37_reverse_1 ++ dktJ37_reverse_2
def dkwJ37_reverse_0 : List UInt8 := [42, 185, 0, 15, 1, 0, 60, 27, 16, 18, 161, 0, 10, 42, 193, 0, 13, 153, 0, 38, 3, 61, 27, 4]
abbrev dktJ37_reverse_0 : List UInt8 := dkwJ37_reverse_0 ++ dktJ37_reverse_1
theorem dksJ37_reverse_0 : cJ37_reverse.data.toList.drop 0 = dktJ37_reverse_0 := by decide +kernel
theorem dksJ37_reverse_1 : cJ37_reverse.data.toList.drop 24 = dktJ37_reverse_1 := dk_seg dksJ37_reverse_0 24 rfl rfl
theorem dksJ37_reverse_2 : cJ37_reverse.data.toList.drop 46 = dktJ37_reverse_2 := dk_seg dksJ37_reverse_1 22 rfl rfl
theorem dksJ37_reverse_3 : cJ37_reverse.data.toList.drop 70 = dktJ37_reverse_3 := dk_seg dksJ37_reverse_2 24 rfl rfl
theorem dksJ37_reverse_4 : cJ37_reverse.data.toList.drop 91 = dktJ37_reverse_4 := dk_seg dksJ37_reverse_3 21 rfl rfl
theorem dksJ37_reverse_5 : cJ37_reverse.data.toList.drop 113 = dktJ37_reverse_5 := dk_seg dksJ37_reverse_4 22 rfl rfl
theorem dJ37_reverse_0 : decode cJ37_reverse 0 = .ok (.aload_n 0, 1) := dk_42 (dk_at dksJ37_reverse_0 0 rfl rfl)
theorem dJ37_reverse_1 : decode cJ37_reverse 1 = .ok (.invokeinterface 15 1, 5) := by decide +kernel
theorem dJ37_reverse_6 : decode cJ37_reverse 6 = .ok (.istore_n 1, 1) := dk_60 (dk_at dksJ37_reverse_0 6 rfl rfl)
theorem dJ37_reverse_7 : decode cJ37_reverse 7 = .ok (.iload_n 1, 1) := dk_27 (dk_at dksJ37_reverse_0 7 rfl rfl)
theorem dJ37_reverse_8 : decode cJ37_reverse 8 = .ok (.bipush 18, 2) := dk_16 18 (dk_at dksJ37_reverse_0 8 rfl rfl)
theorem dJ37_reverse_10 : decode cJ37_reverse 10 = .ok (.if_icmp .lt 10, 3) := dk_161 0 10 (dk_at dksJ37_reverse_0 10 rfl rfl)
theorem dJ37_reverse_13 : decode cJ37_reverse 13 = .ok (.aload_n 0, 1) := dk_42 (dk_at dksJ37_reverse_0 13 rfl rfl)
theorem dJ37_reverse_14 : decode cJ37_reverse 14 = .ok (.instanceof 13, 3) := dk_193 0 13 (dk_at dksJ37_reverse_0 14 rfl rfl)
theorem dJ37_reverse_17 : decode cJ37_reverse 17 = .ok (.ifCond .eq 38, 3) := dk_153 0 38 (dk_at dksJ37_reverse_0 17 rfl rfl)
theorem dJ37_reverse_20 : decode cJ37_reverse 20 = .ok (.iconst 0, 1) := dk_3 (dk_at dksJ37_reverse_0 20 rfl rfl)
theorem dJ37_reverse_21 : decode cJ37_reverse 21 = .ok (.istore_n 2, 1) := dk_61 (dk_at dksJ37_reverse_0 21 rfl rfl)
theorem dJ37_reverse_22 : decode cJ37_reverse 22 = .ok (.iload_n 1, 1) := dk_27 (dk_at dksJ37_reverse_0 22 rfl rfl)
theorem dJ37_reverse_23 : decode cJ37_reverse 23 = .ok (.iconst 1, 1) := dk_4 (dk_at dksJ37_reverse_0 23 rfl rfl)
theorem dJ37_reverse_24 : decode cJ37_reverse 24 = .ok (.ishr, 1) := dk_122 (dk_at dksJ37_reverse_1 0 rfl rfl)
theorem dJ37_reverse_25 : decode cJ37_reverse 25 = .ok (.istore_n 3, 1) := dk_62 (dk_at dksJ37_reverse_1 1 rfl rfl)
theorem dJ37_reverse_26 : decode cJ37_reverse 26 = .ok (.iload_n 1, 1) := dk_27 (dk_at dksJ37_reverse_1 2 rfl rfl)
theorem dJ37_reverse_27 : decode cJ37_reverse 27 = .ok (.iconst 1, 1) := dk_4 (dk_at dksJ37_reverse_1 3 rfl rfl)
theorem dJ37_reverse_28 : decode cJ37_reverse 28 = .ok (.isub, 1) := dk_100 (dk_at dksJ37_reverse_1 4 rfl rfl)
theorem dJ37_reverse_29 : decode cJ37_reverse 29 = .ok (.istore 4, 2) := dk_54 4 (dk_at dksJ37_reverse_1 5 rfl rfl)
theorem dJ37_reverse_31 : decode cJ37_reverse 31 = .ok (.iload_n 2, 1) := dk_28 (dk_at dksJ37_reverse_1 7 rfl rfl)
theorem dJ37_reverse_32 : decode cJ37_reverse 32 = .ok (.iload_n 3, 1) := dk_29 (dk_at dksJ37_reverse_1 8 rfl rfl)
theorem dJ37_reverse_33 : decode cJ37_reverse 33 = .ok (.if_icmp .ge 19, 3) := dk_162 0 19 (dk_at dksJ37_reverse_1 9 rfl rfl)
theorem dJ37_reverse_36 : decode cJ37_reverse 36 = .ok (.aload_n 0, 1) := dk_42 (dk_at dksJ37_reverse_1 12 rfl rfl)
theorem dJ37_reverse_37 : decode cJ37_reverse 37 = .ok (.iload_n 2, 1) := dk_28 (dk_at dksJ37_reverse_1 13 rfl rfl)
theorem dJ37_reverse_38 : decode cJ37_reverse 38 = .ok (.iload 4, 2) := dk_21 4 (dk_at dksJ37_reverse_1 14 rfl rfl)
theorem dJ37_reverse_40 : decode cJ37_reverse 40 = .ok (.invokestatic 71, 3) := dk_184 0 71 (dk_at dksJ37_reverse_1 16 rfl rfl)
theorem dJ37_reverse_43 : decode cJ37_reverse 43 = .ok (.iinc 2 1, 3) := dk_132 2 1 (dk_at dksJ37_reverse_1 19 rfl rfl)
theorem dJ37_reverse_46 : decode cJ37_reverse 46 = .ok (.iinc 4 (-1), 3) := dk_132 4 255 (dk_at dksJ37_reverse_2 0 rfl rfl)
theorem dJ37_reverse_49 : decode cJ37_reverse 49 = .ok (.goto (-18), 3) := dk_167 255 238 (dk_at dksJ37_reverse_2 3 rfl rfl)
theorem dJ37_reverse_52 : decode cJ37_reverse 52 = .ok (.goto 72, 3) := dk_167 0 72 (dk_at dksJ37_reverse_2 6 rfl rfl)
theorem dJ37_reverse_55 : decode cJ37_reverse 55 = .ok (.aload_n 0, 1) := dk_42 (dk_at dksJ37_reverse_2 9 rfl rfl)
theorem dJ37_reverse_56 : decode cJ37_reverse 56 = .ok (.invokeinterface 38 1, 5) := by decide +kernel
theorem dJ37_reverse_61 : decode cJ37_reverse 61 = .ok (.astore_n 2, 1) := dk_77 (dk_at dksJ37_reverse_2 15 rfl rfl)
theorem dJ37_reverse_62 : decode cJ37_reverse 62 = .ok (.aload_n 0, 1) := dk_42 (dk_at dksJ37_reverse_2 16 rfl rfl)
theorem dJ37_reverse_63 : decode cJ37_reverse 63 = .ok (.iload_n 1, 1) := dk_27 (dk_at dksJ37_reverse_2 17 rfl rfl)
theorem dJ37_reverse_64 : decode cJ37_reverse 64 = .ok (.invokeinterface 75 2, 5) := by decide +kernel
theorem dJ37_reverse_69 : decode cJ37_reverse 69 = .ok (.astore_n 3, 1) := dk_78 (dk_at dksJ37_reverse_2 23 rfl rfl)
theorem dJ37_reverse_70 : decode cJ37_reverse 70 = .ok (.iconst 0, 1) := dk_3 (dk_at dksJ37_reverse_3 0 rfl rfl)
theorem dJ37_reverse_71 : decode cJ37_reverse 71 = .ok (.istore 4, 2) := dk_54 4 (dk_at dksJ37_reverse_3 1 rfl rfl)
theorem dJ37_reverse_73 : decode cJ37_reverse 73 = .ok (.aload_n 0, 1) := dk_42 (dk_at dksJ37_reverse_3 3 rfl rfl)
theorem dJ37_reverse_74 : decode cJ37_reverse 74 = .ok (.invokeinterface 15 1, 5) := by decide +kernel
theorem dJ37_reverse_79 : decode cJ37_reverse 79 = .ok (.iconst 1, 1) := dk_4 (dk_at dksJ37_reverse_3 9 rfl rfl)
theorem dJ37_reverse_80 : decode cJ37_reverse 80 = .ok (.ishr, 1) := dk_122 (dk_at dksJ37_reverse_3 10 rfl rfl)
theorem dJ37_reverse_81 : decode cJ37_reverse 81 = .ok (.istore 5, 2) := dk_54 5 (dk_at dksJ37_reverse_3 11 rfl rfl)
theorem dJ37_reverse_83 : decode cJ37_reverse 83 = .ok (.iload 4, 2) := dk_21 4 (dk_at dksJ37_reverse_3 13 rfl rfl)
theorem dJ37_reverse_85 : decode cJ37_reverse 85 = .ok (.iload 5, 2) := dk_21 5 (dk_at dksJ37_reverse_3 15 rfl rfl)
theorem dJ37_reverse_87 : decode cJ37_reverse 87 = .ok (.if_icmp .ge 37, 3) := dk_162 0 37 (dk_at dksJ37_reverse_3 17 rfl rfl)
theorem dJ37_reverse_90 : decode cJ37_reverse 90 = .ok (.aload_n 2, 1) := dk_44 (dk_at dksJ37_reverse_3 20 rfl rfl)
theorem dJ37_reverse_91 : decode cJ37_reverse 91 = .ok (.invokeinterface 50 1, 5) := by decide +kernel
theorem dJ37_reverse_96 : decode cJ37_reverse 96 = .ok (.astore 6, 2) := dk_58 6 (dk_at dksJ37_reverse_4 5 rfl rfl)
theorem dJ37_reverse_98 : decode cJ37_reverse 98 = .ok (.aload_n 2, 1) := dk_44 (dk_at dksJ37_reverse_4 7 rfl rfl)
theorem dJ37_reverse_99 : decode cJ37_reverse 99 = .ok (.aload_n 3, 1) := dk_45 (dk_at dksJ37_reverse_4 8 rfl rfl)
theorem dJ37_reverse_100 : decode cJ37_reverse 100 = .ok (.invokeinterface 54 1, 5) := by decide +kernel
theorem dJ37_reverse_105 : decode cJ37_reverse 105 = .ok (.invokeinterface 78 2, 5) := by decide +kernel
theorem dJ37_reverse_110 : decode cJ37_reverse 110 = .ok (.aload_n 3, 1) := dk_45 (dk_at dksJ37_reverse_4 19 rfl rfl)
theorem dJ37_reverse_111 : decode cJ37_reverse 111 = .ok (.aload 6, 2) := dk_25 6 (dk_at dksJ37_reverse_4 20 rfl rfl)
theorem dJ37_reverse_113 : decode cJ37_reverse 113 = .ok (.invokeinterface 78 2, 5) := by decide +kernel
theorem dJ37_reverse_118 : decode cJ37_reverse 118 = .ok (.iinc 4 1, 3) := dk_132 4 1 (dk_at dksJ37_reverse_5 5 rfl rfl)
theorem dJ37_reverse_121 : decode cJ37_reverse 121 = .ok (.goto (-38), 3) := dk_167 255 218 (dk_at dksJ37_reverse_5 8 rfl rfl)
theorem dJ37_reverse_124 : decode cJ37_reverse 124 = .ok (.return_, 1) := dk_177 (dk_at dksJ37_reverse_5 11 rfl rfl)
abbrev cJ37_swap : ByteArray := prog_62_method_15_code
def yJ37_swap : MethodName := ⟨RJ37, "swap", "(Ljava/util/List;II)V"⟩
def dkwJ37_swap_1 : List UInt8 := [177]
abbrev dktJ37_swap_1 : List UInt8 := dkwJ37_swap_1 ++ []
def dkwJ37_swap_0 : List UInt8 := [42, 78, 45, 27, 45, 28, 45, 27, 185, 0, 28, 2, 0, 185, 0, 109, 3, 0, 185, 0, 109, 3, 0, 87]
abbrev dktJ37_swap_0 : List UInt8 := dkwJ37_swap_0 ++ dktJ37_swap_1
theorem dksJ37_swap_0 : cJ37_swap.data.toList.drop 0 = dktJ37_swap_0 := by decide +kernel
theorem dksJ37_swap_1 : cJ37_swap.data.toList.drop 24 = dktJ37_swap_1 := dk_seg dksJ37_swap_0 24 rfl rfl
theorem dJ37_swap_0 : decode cJ37_swap 0 = .ok (.aload_n 0, 1) := dk_42 (dk_at dksJ37_swap_0 0 rfl rfl)
theorem dJ37_swap_1 : decode cJ37_swap 1 = .ok (.astore_n 3, 1) := dk_78 (dk_at dksJ37_swap_0 1 rfl rfl)
theorem dJ37_swap_2 : decode cJ37_swap 2 = .ok (.aload_n 3, 1) := dk_45 (dk_at dksJ37_swap_0 2 rfl rfl)
theorem dJ37_swap_3 : decode cJ37_swap 3 = .ok (.iload_n 1, 1) := dk_27 (dk_at dksJ37_swap_0 3 rfl rfl)
theorem dJ37_swap_4 : decode cJ37_swap 4 = .ok (.aload_n 3, 1) := dk_45 (dk_at dksJ37_swap_0 4 rfl rfl)
theorem dJ37_swap_5 : decode cJ37_swap 5 = .ok (.iload_n 2, 1) := dk_28 (dk_at dksJ37_swap_0 5 rfl rfl)
theorem dJ37_swap_6 : decode cJ37_swap 6 = .ok (.aload_n 3, 1) := dk_45 (dk_at dksJ37_swap_0 6 rfl rfl)
theorem dJ37_swap_7 : decode cJ37_swap 7 = .ok (.iload_n 1, 1) := dk_27 (dk_at dksJ37_swap_0 7 rfl rfl)
theorem dJ37_swap_8 : decode cJ37_swap 8 = .ok (.invokeinterface 28 2, 5) := by decide +kernel
theorem dJ37_swap_13 : decode cJ37_swap 13 = .ok (.invokeinterface 109 3, 5) := by decide +kernel
theorem dJ37_swap_18 : decode cJ37_swap 18 = .ok (.invokeinterface 109 3, 5) := by decide +kernel
theorem dJ37_swap_23 : decode cJ37_swap 23 = .ok (.pop, 1) := dk_87 (dk_at dksJ37_swap_0 23 rfl rfl)
theorem dJ37_swap_24 : decode cJ37_swap 24 = .ok (.return_, 1) := dk_177 (dk_at dksJ37_swap_1 0 rfl rfl)
theorem q99 : (Jvm.Cond.initialized "java/util/Collections") ∈ lw_all := lw_g (lw_at lw_m1 52 rfl) rfl
theorem q1773 : (Jvm.Cond.static ({ cls := "java/util/Collections", name := "reverse", desc := "(Ljava/util/List;)V" } : Jvm.MethodName)) ∈ lw_all := lw_g (lw_at lw_m8 46 rfl) rfl
theorem q1774 : (Jvm.Cond.code ({ cls := "java/util/Collections", name := "reverse", desc := "(Ljava/util/List;)V" } : Jvm.MethodName) prog_62_method_11_code (7 : Nat) (Option.none : Option Jvm.ClassFile.FieldType)) ∈ lw_all := lw_g (lw_at lw_m8 47 rfl) rfl
theorem q1775 : (Jvm.Cond.interfaceEntry "java/util/Collections" (15 : Nat)) ∈ lw_tbl := lw_at lw_m8 48 rfl
theorem q1776 : (Jvm.Cond.methodLink "java/util/Collections" (15 : Nat) ({ cls := "java/util/List", name := "size", desc := "()I" } : Jvm.MethodName)) ∈ lw_all := lw_g (lw_at lw_m8 49 rfl) rfl
theorem q1790 : (Jvm.Cond.classLink "java/util/Collections" (13 : Nat) "java/util/RandomAccess") ∈ lw_all := lw_g (lw_at lw_m8 63 rfl) rfl
theorem q1791 : (Jvm.Cond.methodLink "java/util/Collections" (71 : Nat) ({ cls := "java/util/Collections", name := "swap", desc := "(Ljava/util/List;II)V" } : Jvm.MethodName)) ∈ lw_all := lw_g (lw_at lw_m8 64 rfl) rfl
theorem q1792 : (Jvm.Cond.static ({ cls := "java/util/Collections", name := "swap", desc := "(Ljava/util/List;II)V" } : Jvm.MethodName)) ∈ lw_all := lw_g (lw_at lw_m8 65 rfl) rfl
theorem q1793 : (Jvm.Cond.code ({ cls := "java/util/Collections", name := "swap", desc := "(Ljava/util/List;II)V" } : Jvm.MethodName) prog_62_method_15_code (4 : Nat) (Option.none : Option Jvm.ClassFile.FieldType)) ∈ lw_all := lw_g (lw_at lw_m8 66 rfl) rfl
theorem q1794 : (Jvm.Cond.interfaceEntry "java/util/Collections" (28 : Nat)) ∈ lw_tbl := lw_at lw_m8 67 rfl
theorem q1795 : (Jvm.Cond.methodLink "java/util/Collections" (28 : Nat) ({ cls := "java/util/List", name := "get", desc := "(I)Ljava/lang/Object;" } : Jvm.MethodName)) ∈ lw_all := lw_g (lw_at lw_m8 68 rfl) rfl
theorem q1796 : (Jvm.Cond.interfaceEntry "java/util/Collections" (109 : Nat)) ∈ lw_tbl := lw_at lw_m8 69 rfl
theorem q1797 : (Jvm.Cond.methodLink "java/util/Collections" (109 : Nat) ({ cls := "java/util/List", name := "set", desc := "(ILjava/lang/Object;)Ljava/lang/Object;" } : Jvm.MethodName)) ∈ lw_all := lw_g (lw_at lw_m8 70 rfl) rfl
theorem q1816 : (Jvm.Cond.interfaceEntry "java/util/Collections" (38 : Nat)) ∈ lw_tbl := lw_at lw_m8 89 rfl
theorem q1817 : (Jvm.Cond.methodLink "java/util/Collections" (38 : Nat) ({ cls := "java/util/List", name := "listIterator", desc := "()Ljava/util/ListIterator;" } : Jvm.MethodName)) ∈ lw_all := lw_g (lw_at lw_m8 90 rfl) rfl
theorem q1874 : (Jvm.Cond.interfaceEntry "java/util/Collections" (75 : Nat)) ∈ lw_tbl := lw_at lw_m8 147 rfl
theorem q1875 : (Jvm.Cond.methodLink "java/util/Collections" (75 : Nat) ({ cls := "java/util/List", name := "listIterator", desc := "(I)Ljava/util/ListIterator;" } : Jvm.MethodName)) ∈ lw_all := lw_g (lw_at lw_m8 148 rfl) rfl
theorem q1887 : (Jvm.Cond.interfaceEntry "java/util/Collections" (50 : Nat)) ∈ lw_tbl := lw_at lw_m8 160 rfl
theorem q1888 : (Jvm.Cond.methodLink "java/util/Collections" (50 : Nat) ({ cls := "java/util/ListIterator", name := "next", desc := "()Ljava/lang/Object;" } : Jvm.MethodName)) ∈ lw_all := lw_g (lw_at lw_m8 161 rfl) rfl
theorem q1899 : (Jvm.Cond.interfaceEntry "java/util/Collections" (54 : Nat)) ∈ lw_tbl := lw_at lw_m8 172 rfl
theorem q1900 : (Jvm.Cond.methodLink "java/util/Collections" (54 : Nat) ({ cls := "java/util/ListIterator", name := "previous", desc := "()Ljava/lang/Object;" } : Jvm.MethodName)) ∈ lw_all := lw_g (lw_at lw_m8 173 rfl) rfl
theorem q1940 : (Jvm.Cond.interfaceEntry "java/util/Collections" (78 : Nat)) ∈ lw_tbl := lw_at lw_m8 213 rfl
theorem q1941 : (Jvm.Cond.methodLink "java/util/Collections" (78 : Nat) ({ cls := "java/util/ListIterator", name := "set", desc := "(Ljava/lang/Object;)V" } : Jvm.MethodName)) ∈ lw_all := lw_g (lw_at lw_m8 214 rfl) rfl

theorem q100 : (Jvm.Cond.initialized "java/util/ImmutableCollections$ListItr") ∈ lw_all := lw_g (lw_at lw_m1 53 rfl) rfl
theorem q697 : (Jvm.Cond.castable "java/util/ImmutableCollections$ListItr" "java/util/Iterator") ∈ lw_tbl := lw_at lw_m3 170 rfl
theorem q698 : (Jvm.Cond.selects "java/util/ImmutableCollections$ListItr" ({ cls := "java/util/Iterator", name := "hasNext", desc := "()Z" } : Jvm.MethodName) ({ cls := "java/util/ImmutableCollections$ListItr", name := "hasNext", desc := "()Z" } : Jvm.MethodName)) ∈ lw_all := lw_g (lw_at lw_m3 171 rfl) rfl
theorem q699 : (Jvm.Cond.unhidden "java/util/ImmutableCollections$ListItr" "hasNext" "()Z") ∈ lw_tbl := lw_at lw_m3 172 rfl
theorem q700 : (Jvm.Cond.instanceMethod ({ cls := "java/util/ImmutableCollections$ListItr", name := "hasNext", desc := "()Z" } : Jvm.MethodName)) ∈ lw_all := lw_g (lw_at lw_m3 173 rfl) rfl
theorem q701 : (Jvm.Cond.publicMethod ({ cls := "java/util/ImmutableCollections$ListItr", name := "hasNext", desc := "()Z" } : Jvm.MethodName)) ∈ lw_tbl := lw_at lw_m3 174 rfl
theorem q702 : (Jvm.Cond.code ({ cls := "java/util/ImmutableCollections$ListItr", name := "hasNext", desc := "()Z" } : Jvm.MethodName) prog_69_method_3_code (1 : Nat) (Option.some Jvm.ClassFile.FieldType.boolean)) ∈ lw_all := lw_g (lw_at lw_m3 175 rfl) rfl
theorem q853 : (Jvm.Cond.selects "java/util/ImmutableCollections$ListItr" ({ cls := "java/lang/Object", name := "getClass", desc := "()Ljava/lang/Class;" } : Jvm.MethodName) ({ cls := "java/lang/Object", name := "getClass", desc := "()Ljava/lang/Class;" } : Jvm.MethodName)) ∈ lw_all := lw_g (lw_at lw_m4 86 rfl) rfl
theorem q928 : (Jvm.Cond.selects "java/util/ImmutableCollections$ListItr" ({ cls := "java/util/Iterator", name := "next", desc := "()Ljava/lang/Object;" } : Jvm.MethodName) ({ cls := "java/util/ImmutableCollections$ListItr", name := "next", desc := "()Ljava/lang/Object;" } : Jvm.MethodName)) ∈ lw_all := lw_g (lw_at lw_m4 161 rfl) rfl
theorem q929 : (Jvm.Cond.unhidden "java/util/ImmutableCollections$ListItr" "next" "()Ljava/lang/Object;") ∈ lw_tbl := lw_at lw_m4 162 rfl
theorem q930 : (Jvm.Cond.instanceMethod ({ cls := "java/util/ImmutableCollections$ListItr", name := "next", desc := "()Ljava/lang/Object;" } : Jvm.MethodName)) ∈ lw_all := lw_g (lw_at lw_m4 163 rfl) rfl
theorem q931 : (Jvm.Cond.publicMethod ({ cls := "java/util/ImmutableCollections$ListItr", name := "next", desc := "()Ljava/lang/Object;" } : Jvm.MethodName)) ∈ lw_tbl := lw_at lw_m4 164 rfl
theorem q932 : (Jvm.Cond.codeWith ({ cls := "java/util/ImmutableCollections$ListItr", name := "next", desc := "()Ljava/lang/Object;" } : Jvm.MethodName) prog_69_method_4_code (3 : Nat) (Option.some (Jvm.ClassFile.FieldType.object "java/lang/Object")) [((0 : Nat), (24 : Nat), (25 : Nat), (30 : Nat))]) ∈ lw_all := lw_g (lw_at lw_m4 165 rfl) rfl
theorem q933 : (Jvm.Cond.interfaceEntry "java/util/ImmutableCollections$ListItr" (24 : Nat)) ∈ lw_tbl := lw_at lw_m4 166 rfl
theorem q934 : (Jvm.Cond.methodLink "java/util/ImmutableCollections$ListItr" (24 : Nat) ({ cls := "java/util/List", name := "get", desc := "(I)Ljava/lang/Object;" } : Jvm.MethodName)) ∈ lw_all := lw_g (lw_at lw_m4 167 rfl) rfl
theorem q951 : (Jvm.Cond.classLink "java/util/ImmutableCollections$ListItr" (32 : Nat) "java/util/NoSuchElementException") ∈ lw_all := lw_g (lw_at lw_m4 184 rfl) rfl
theorem q952 : (Jvm.Cond.methodLink "java/util/ImmutableCollections$ListItr" (34 : Nat) ({ cls := "java/util/NoSuchElementException", name := "<init>", desc := "()V" } : Jvm.MethodName)) ∈ lw_all := lw_g (lw_at lw_m4 185 rfl) rfl
theorem q1531 : (Jvm.Cond.selects "java/util/ImmutableCollections$ListItr" ({ cls := "java/util/Iterator", name := "remove", desc := "()V" } : Jvm.MethodName) ({ cls := "java/util/ImmutableCollections$ListItr", name := "remove", desc := "()V" } : Jvm.MethodName)) ∈ lw_all := lw_g (lw_at lw_m7 44 rfl) rfl
theorem q1532 : (Jvm.Cond.unhidden "java/util/ImmutableCollections$ListItr" "remove" "()V") ∈ lw_tbl := lw_at lw_m7 45 rfl
theorem q1533 : (Jvm.Cond.instanceMethod ({ cls := "java/util/ImmutableCollections$ListItr", name := "remove", desc := "()V" } : Jvm.MethodName)) ∈ lw_all := lw_g (lw_at lw_m7 46 rfl) rfl
theorem q1534 : (Jvm.Cond.publicMethod ({ cls := "java/util/ImmutableCollections$ListItr", name := "remove", desc := "()V" } : Jvm.MethodName)) ∈ lw_tbl := lw_at lw_m7 47 rfl
theorem q1535 : (Jvm.Cond.code ({ cls := "java/util/ImmutableCollections$ListItr", name := "remove", desc := "()V" } : Jvm.MethodName) prog_69_method_5_code (1 : Nat) (Option.none : Option Jvm.ClassFile.FieldType)) ∈ lw_all := lw_g (lw_at lw_m7 48 rfl) rfl
theorem q1536 : (Jvm.Cond.methodLink "java/util/ImmutableCollections$ListItr" (35 : Nat) ({ cls := "java/util/ImmutableCollections", name := "uoe", desc := "()Ljava/lang/UnsupportedOperationException;" } : Jvm.MethodName)) ∈ lw_all := lw_g (lw_at lw_m7 49 rfl) rfl
theorem q1853 : (Jvm.Cond.instantiable "java/util/ImmutableCollections$ListItr" (4 : Nat)) ∈ lw_all := lw_g (lw_at lw_m8 126 rfl) rfl
theorem q1855 : (Jvm.Cond.instanceMethod ({ cls := "java/util/ImmutableCollections$ListItr", name := "<init>", desc := "(Ljava/util/List;II)V" } : Jvm.MethodName)) ∈ lw_all := lw_g (lw_at lw_m8 128 rfl) rfl
theorem q1856 : (Jvm.Cond.code ({ cls := "java/util/ImmutableCollections$ListItr", name := "<init>", desc := "(Ljava/util/List;II)V" } : Jvm.MethodName) prog_69_method_2_code (4 : Nat) (Option.none : Option Jvm.ClassFile.FieldType)) ∈ lw_all := lw_g (lw_at lw_m8 129 rfl) rfl
theorem q1857 : (Jvm.Cond.methodLink "java/util/ImmutableCollections$ListItr" (1 : Nat) ({ cls := "java/lang/Object", name := "<init>", desc := "()V" } : Jvm.MethodName)) ∈ lw_all := lw_g (lw_at lw_m8 130 rfl) rfl
theorem q1858 : (Jvm.Cond.fieldLink "java/util/ImmutableCollections$ListItr" (7 : Nat) "java/util/ImmutableCollections$ListItr" "list" "Ljava/util/List;") ∈ lw_all := lw_g (lw_at lw_m8 131 rfl) rfl
theorem q1859 : (Jvm.Cond.fieldLink "java/util/ImmutableCollections$ListItr" (13 : Nat) "java/util/ImmutableCollections$ListItr" "size" "I") ∈ lw_all := lw_g (lw_at lw_m8 132 rfl) rfl
theorem q1860 : (Jvm.Cond.fieldLink "java/util/ImmutableCollections$ListItr" (20 : Nat) "java/util/ImmutableCollections$ListItr" "isListIterator" "Z") ∈ lw_all := lw_g (lw_at lw_m8 133 rfl) rfl
theorem q1861 : (Jvm.Cond.fieldLink "java/util/ImmutableCollections$ListItr" (17 : Nat) "java/util/ImmutableCollections$ListItr" "cursor" "I") ∈ lw_all := lw_g (lw_at lw_m8 134 rfl) rfl
theorem q1862 : (Jvm.Cond.laysFinal "java/util/ImmutableCollections$ListItr" "java/util/ImmutableCollections$ListItr" "list" "Ljava/util/List;") ∈ lw_all := lw_g (lw_at lw_m8 135 rfl) rfl
theorem q1863 : (Jvm.Cond.soleField "java/util/ImmutableCollections$ListItr" "list") ∈ lw_all := lw_g (lw_at lw_m8 136 rfl) rfl
theorem q1864 : (Jvm.Cond.laysFinal "java/util/ImmutableCollections$ListItr" "java/util/ImmutableCollections$ListItr" "size" "I") ∈ lw_all := lw_g (lw_at lw_m8 137 rfl) rfl
theorem q1865 : (Jvm.Cond.soleField "java/util/ImmutableCollections$ListItr" "size") ∈ lw_all := lw_g (lw_at lw_m8 138 rfl) rfl
theorem q1866 : (Jvm.Cond.laysFinal "java/util/ImmutableCollections$ListItr" "java/util/ImmutableCollections$ListItr" "isListIterator" "Z") ∈ lw_all := lw_g (lw_at lw_m8 139 rfl) rfl
theorem q1867 : (Jvm.Cond.soleField "java/util/ImmutableCollections$ListItr" "isListIterator") ∈ lw_all := lw_g (lw_at lw_m8 140 rfl) rfl
theorem q1868 : (Jvm.Cond.lays "java/util/ImmutableCollections$ListItr" "java/util/ImmutableCollections$ListItr" "cursor" "I") ∈ lw_all := lw_g (lw_at lw_m8 141 rfl) rfl
theorem q1869 : (Jvm.Cond.soleField "java/util/ImmutableCollections$ListItr" "cursor") ∈ lw_all := lw_g (lw_at lw_m8 142 rfl) rfl
theorem q1870 : (Jvm.Cond.superclass "java/util/ImmutableCollections$ListItr" "java/lang/Object") ∈ lw_all := lw_g (lw_at lw_m8 143 rfl) rfl
theorem q1895 : (Jvm.Cond.castable "java/util/ImmutableCollections$ListItr" "java/util/ListIterator") ∈ lw_tbl := lw_at lw_m8 168 rfl
theorem q1896 : (Jvm.Cond.selects "java/util/ImmutableCollections$ListItr" ({ cls := "java/util/ListIterator", name := "next", desc := "()Ljava/lang/Object;" } : Jvm.MethodName) ({ cls := "java/util/ImmutableCollections$ListItr", name := "next", desc := "()Ljava/lang/Object;" } : Jvm.MethodName)) ∈ lw_all := lw_g (lw_at lw_m8 169 rfl) rfl
theorem q1926 : (Jvm.Cond.selects "java/util/ImmutableCollections$ListItr" ({ cls := "java/util/ListIterator", name := "previous", desc := "()Ljava/lang/Object;" } : Jvm.MethodName) ({ cls := "java/util/ImmutableCollections$ListItr", name := "previous", desc := "()Ljava/lang/Object;" } : Jvm.MethodName)) ∈ lw_all := lw_g (lw_at lw_m8 199 rfl) rfl
theorem q1927 : (Jvm.Cond.unhidden "java/util/ImmutableCollections$ListItr" "previous" "()Ljava/lang/Object;") ∈ lw_tbl := lw_at lw_m8 200 rfl
theorem q1928 : (Jvm.Cond.instanceMethod ({ cls := "java/util/ImmutableCollections$ListItr", name := "previous", desc := "()Ljava/lang/Object;" } : Jvm.MethodName)) ∈ lw_all := lw_g (lw_at lw_m8 201 rfl) rfl
theorem q1929 : (Jvm.Cond.publicMethod ({ cls := "java/util/ImmutableCollections$ListItr", name := "previous", desc := "()Ljava/lang/Object;" } : Jvm.MethodName)) ∈ lw_tbl := lw_at lw_m8 202 rfl
theorem q1930 : (Jvm.Cond.codeWith ({ cls := "java/util/ImmutableCollections$ListItr", name := "previous", desc := "()Ljava/lang/Object;" } : Jvm.MethodName) prog_69_method_7_code (3 : Nat) (Option.some (Jvm.ClassFile.FieldType.object "java/lang/Object")) [((11 : Nat), (35 : Nat), (36 : Nat), (30 : Nat))]) ∈ lw_all := lw_g (lw_at lw_m8 203 rfl) rfl
theorem q1969 : (Jvm.Cond.selects "java/util/ImmutableCollections$ListItr" ({ cls := "java/util/ListIterator", name := "set", desc := "(Ljava/lang/Object;)V" } : Jvm.MethodName) ({ cls := "java/util/ImmutableCollections$ListItr", name := "set", desc := "(Ljava/lang/Object;)V" } : Jvm.MethodName)) ∈ lw_all := lw_g (lw_at lw_m9 2 rfl) rfl
theorem q1970 : (Jvm.Cond.unhidden "java/util/ImmutableCollections$ListItr" "set" "(Ljava/lang/Object;)V") ∈ lw_tbl := lw_at lw_m9 3 rfl
theorem q1971 : (Jvm.Cond.instanceMethod ({ cls := "java/util/ImmutableCollections$ListItr", name := "set", desc := "(Ljava/lang/Object;)V" } : Jvm.MethodName)) ∈ lw_all := lw_g (lw_at lw_m9 4 rfl) rfl
theorem q1972 : (Jvm.Cond.publicMethod ({ cls := "java/util/ImmutableCollections$ListItr", name := "set", desc := "(Ljava/lang/Object;)V" } : Jvm.MethodName)) ∈ lw_tbl := lw_at lw_m9 5 rfl
theorem q1973 : (Jvm.Cond.code ({ cls := "java/util/ImmutableCollections$ListItr", name := "set", desc := "(Ljava/lang/Object;)V" } : Jvm.MethodName) prog_69_method_10_code (2 : Nat) (Option.none : Option Jvm.ClassFile.FieldType)) ∈ lw_all := lw_g (lw_at lw_m9 6 rfl) rfl
theorem q1999 : (Jvm.Cond.instanceMethod ({ cls := "java/util/ImmutableCollections$ListItr", name := "<init>", desc := "(Ljava/util/List;I)V" } : Jvm.MethodName)) ∈ lw_all := lw_g (lw_at lw_m9 32 rfl) rfl
theorem q2000 : (Jvm.Cond.code ({ cls := "java/util/ImmutableCollections$ListItr", name := "<init>", desc := "(Ljava/util/List;I)V" } : Jvm.MethodName) prog_69_method_1_code (3 : Nat) (Option.none : Option Jvm.ClassFile.FieldType)) ∈ lw_all := lw_g (lw_at lw_m9 33 rfl) rfl
theorem q2587 : (Jvm.Cond.castable "java/util/ImmutableCollections$ListItr" "java/lang/Object") ∈ lw_tbl := lw_at lw_m11 140 rfl

/-! java/lang/Long -/
set_option maxRecDepth 100000
def RJ39 : String := "java/lang/Long"
abbrev cJ39_bitCount : ByteArray := prog_35_method_50_code
def yJ39_bitCount : MethodName := ⟨RJ39, "bitCount", "(J)I"⟩
def dkwJ39_bitCount_2 : List UInt8 := [30, 30, 16, 32, 125, 97, 63, 30, 136, 16, 127, 126, 172]
abbrev dktJ39_bitCount_2 : List UInt8 := dkwJ39_bitCount_2 ++ []
def dkwJ39_bitCount_1 : List UInt8 := [30, 30, 7, 125, 97, 20, 1, 62, 127, 63, 30, 30, 16, 8, 125, 97, 63, 30, 30, 16, 16, 125, 97, 63]
abbrev dktJ39_bitCount_1 : List UInt8 := dkwJ39_bitCount_1 ++ dktJ39_bitCount_2
def dkwJ39_bitCount_0 : List UInt8 := [30, 30, 4, 125, 20, 1, 58, 127, 101, 63, 30, 20, 1, 60, 127, 30, 5, 125, 20, 1, 60, 127, 97, 63]
abbrev dktJ39_bitCount_0 : List UInt8 := dkwJ39_bitCount_0 ++ dktJ39_bitCount_1
theorem dksJ39_bitCount_0 : cJ39_bitCount.data.toList.drop 0 = dktJ39_bitCount_0 := by decide +kernel
theorem dksJ39_bitCount_1 : cJ39_bitCount.data.toList.drop 24 = dktJ39_bitCount_1 := dk_seg dksJ39_bitCount_0 24 rfl rfl
theorem dksJ39_bitCount_2 : cJ39_bitCount.data.toList.drop 48 = dktJ39_bitCount_2 := dk_seg dksJ39_bitCount_1 24 rfl rfl
theorem dJ39_bitCount_0 : decode cJ39_bitCount 0 = .ok (.lload_n 0, 1) := dk_30 (dk_at dksJ39_bitCount_0 0 rfl rfl)
theorem dJ39_bitCount_1 : decode cJ39_bitCount 1 = .ok (.lload_n 0, 1) := dk_30 (dk_at dksJ39_bitCount_0 1 rfl rfl)
theorem dJ39_bitCount_2 : decode cJ39_bitCount 2 = .ok (.iconst 1, 1) := dk_4 (dk_at dksJ39_bitCount_0 2 rfl rfl)
theorem dJ39_bitCount_3 : decode cJ39_bitCount 3 = .ok (.lushr, 1) := dk_125 (dk_at dksJ39_bitCount_0 3 rfl rfl)
theorem dJ39_bitCount_4 : decode cJ39_bitCount 4 = .ok (.ldc2_w 314, 3) := dk_20 1 58 (dk_at dksJ39_bitCount_0 4 rfl rfl)
theorem dJ39_bitCount_7 : decode cJ39_bitCount 7 = .ok (.land, 1) := dk_127 (dk_at dksJ39_bitCount_0 7 rfl rfl)
theorem dJ39_bitCount_8 : decode cJ39_bitCount 8 = .ok (.lsub, 1) := dk_101 (dk_at dksJ39_bitCount_0 8 rfl rfl)
theorem dJ39_bitCount_9 : decode cJ39_bitCount 9 = .ok (.lstore_n 0, 1) := dk_63 (dk_at dksJ39_bitCount_0 9 rfl rfl)
theorem dJ39_bitCount_10 : decode cJ39_bitCount 10 = .ok (.lload_n 0, 1) := dk_30 (dk_at dksJ39_bitCount_0 10 rfl rfl)
theorem dJ39_bitCount_11 : decode cJ39_bitCount 11 = .ok (.ldc2_w 316, 3) := dk_20 1 60 (dk_at dksJ39_bitCount_0 11 rfl rfl)
theorem dJ39_bitCount_14 : decode cJ39_bitCount 14 = .ok (.land, 1) := dk_127 (dk_at dksJ39_bitCount_0 14 rfl rfl)
theorem dJ39_bitCount_15 : decode cJ39_bitCount 15 = .ok (.lload_n 0, 1) := dk_30 (dk_at dksJ39_bitCount_0 15 rfl rfl)
theorem dJ39_bitCount_16 : decode cJ39_bitCount 16 = .ok (.iconst 2, 1) := dk_5 (dk_at dksJ39_bitCount_0 16 rfl rfl)
theorem dJ39_bitCount_17 : decode cJ39_bitCount 17 = .ok (.lushr, 1) := dk_125 (dk_at dksJ39_bitCount_0 17 rfl rfl)
theorem dJ39_bitCount_18 : decode cJ39_bitCount 18 = .ok (.ldc2_w 316, 3) := dk_20 1 60 (dk_at dksJ39_bitCount_0 18 rfl rfl)
theorem dJ39_bitCount_21 : decode cJ39_bitCount 21 = .ok (.land, 1) := dk_127 (dk_at dksJ39_bitCount_0 21 rfl rfl)
theorem dJ39_bitCount_22 : decode cJ39_bitCount 22 = .ok (.ladd, 1) := dk_97 (dk_at dksJ39_bitCount_0 22 rfl rfl)
theorem dJ39_bitCount_23 : decode cJ39_bitCount 23 = .ok (.lstore_n 0, 1) := dk_63 (dk_at dksJ39_bitCount_0 23 rfl rfl)
theorem dJ39_bitCount_24 : decode cJ39_bitCount 24 = .ok (.lload_n 0, 1) := dk_30 (dk_at dksJ39_bitCount_1 0 rfl rfl)
theorem dJ39_bitCount_25 : decode cJ39_bitCount 25 = .ok (.lload_n 0, 1) := dk_30 (dk_at dksJ39_bitCount_1 1 rfl rfl)
theorem dJ39_bitCount_26 : decode cJ39_bitCount 26 = .ok (.iconst 4, 1) := dk_7 (dk_at dksJ39_bitCount_1 2 rfl rfl)
theorem dJ39_bitCount_27 : decode cJ39_bitCount 27 = .ok (.lushr, 1) := dk_125 (dk_at dksJ39_bitCount_1 3 rfl rfl)
theorem dJ39_bitCount_28 : decode cJ39_bitCount 28 = .ok (.ladd, 1) := dk_97 (dk_at dksJ39_bitCount_1 4 rfl rfl)
theorem dJ39_bitCount_29 : decode cJ39_bitCount 29 = .ok (.ldc2_w 318, 3) := dk_20 1 62 (dk_at dksJ39_bitCount_1 5 rfl rfl)
theorem dJ39_bitCount_32 : decode cJ39_bitCount 32 = .ok (.land, 1) := dk_127 (dk_at dksJ39_bitCount_1 8 rfl rfl)
theorem dJ39_bitCount_33 : decode cJ39_bitCount 33 = .ok (.lstore_n 0, 1) := dk_63 (dk_at dksJ39_bitCount_1 9 rfl rfl)
theorem dJ39_bitCount_34 : decode cJ39_bitCount 34 = .ok (.lload_n 0, 1) := dk_30 (dk_at dksJ39_bitCount_1 10 rfl rfl)
theorem dJ39_bitCount_35 : decode cJ39_bitCount 35 = .ok (.lload_n 0, 1) := dk_30 (dk_at dksJ39_bitCount_1 11 rfl rfl)
theorem dJ39_bitCount_36 : decode cJ39_bitCount 36 = .ok (.bipush 8, 2) := dk_16 8 (dk_at dksJ39_bitCount_1 12 rfl rfl)
theorem dJ39_bitCount_38 : decode cJ39_bitCount 38 = .ok (.lushr, 1) := dk_125 (dk_at dksJ39_bitCount_1 14 rfl rfl)
theorem dJ39_bitCount_39 : decode cJ39_bitCount 39 = .ok (.ladd, 1) := dk_97 (dk_at dksJ39_bitCount_1 15 rfl rfl)
theorem dJ39_bitCount_40 : decode cJ39_bitCount 40 = .ok (.lstore_n 0, 1) := dk_63 (dk_at dksJ39_bitCount_1 16 rfl rfl)
theorem dJ39_bitCount_41 : decode cJ39_bitCount 41 = .ok (.lload_n 0, 1) := dk_30 (dk_at dksJ39_bitCount_1 17 rfl rfl)
theorem dJ39_bitCount_42 : decode cJ39_bitCount 42 = .ok (.lload_n 0, 1) := dk_30 (dk_at dksJ39_bitCount_1 18 rfl rfl)
theorem dJ39_bitCount_43 : decode cJ39_bitCount 43 = .ok (.bipush 16, 2) := dk_16 16 (dk_at dksJ39_bitCount_1 19 rfl rfl)
theorem dJ39_bitCount_45 : decode cJ39_bitCount 45 = .ok (.lushr, 1) := dk_125 (dk_at dksJ39_bitCount_1 21 rfl rfl)
theorem dJ39_bitCount_46 : decode cJ39_bitCount 46 = .ok (.ladd, 1) := dk_97 (dk_at dksJ39_bitCount_1 22 rfl rfl)
theorem dJ39_bitCount_47 : decode cJ39_bitCount 47 = .ok (.lstore_n 0, 1) := dk_63 (dk_at dksJ39_bitCount_1 23 rfl rfl)
theorem dJ39_bitCount_48 : decode cJ39_bitCount 48 = .ok (.lload_n 0, 1) := dk_30 (dk_at dksJ39_bitCount_2 0 rfl rfl)
theorem dJ39_bitCount_49 : decode cJ39_bitCount 49 = .ok (.lload_n 0, 1) := dk_30 (dk_at dksJ39_bitCount_2 1 rfl rfl)
theorem dJ39_bitCount_50 : decode cJ39_bitCount 50 = .ok (.bipush 32, 2) := dk_16 32 (dk_at dksJ39_bitCount_2 2 rfl rfl)
theorem dJ39_bitCount_52 : decode cJ39_bitCount 52 = .ok (.lushr, 1) := dk_125 (dk_at dksJ39_bitCount_2 4 rfl rfl)
theorem dJ39_bitCount_53 : decode cJ39_bitCount 53 = .ok (.ladd, 1) := dk_97 (dk_at dksJ39_bitCount_2 5 rfl rfl)
theorem dJ39_bitCount_54 : decode cJ39_bitCount 54 = .ok (.lstore_n 0, 1) := dk_63 (dk_at dksJ39_bitCount_2 6 rfl rfl)
theorem dJ39_bitCount_55 : decode cJ39_bitCount 55 = .ok (.lload_n 0, 1) := dk_30 (dk_at dksJ39_bitCount_2 7 rfl rfl)
theorem dJ39_bitCount_56 : decode cJ39_bitCount 56 = .ok (.l2i, 1) := dk_136 (dk_at dksJ39_bitCount_2 8 rfl rfl)
theorem dJ39_bitCount_57 : decode cJ39_bitCount 57 = .ok (.bipush 127, 2) := dk_16 127 (dk_at dksJ39_bitCount_2 9 rfl rfl)
theorem dJ39_bitCount_59 : decode cJ39_bitCount 59 = .ok (.iand, 1) := dk_126 (dk_at dksJ39_bitCount_2 11 rfl rfl)
theorem dJ39_bitCount_60 : decode cJ39_bitCount 60 = .ok (.ireturn, 1) := dk_172 (dk_at dksJ39_bitCount_2 12 rfl rfl)
theorem q104 : (Jvm.Cond.initialized "java/lang/Long") ∈ lw_all := lw_g (lw_at lw_m1 57 rfl) rfl
theorem q2085 : (Jvm.Cond.static ({ cls := "java/lang/Long", name := "bitCount", desc := "(J)I" } : Jvm.MethodName)) ∈ lw_all := lw_g (lw_at lw_m9 118 rfl) rfl
theorem q2086 : (Jvm.Cond.code ({ cls := "java/lang/Long", name := "bitCount", desc := "(J)I" } : Jvm.MethodName) prog_35_method_50_code (2 : Nat) (Option.some Jvm.ClassFile.FieldType.int)) ∈ lw_all := lw_g (lw_at lw_m9 119 rfl) rfl
theorem q2087 : (Jvm.Cond.constantLong "java/lang/Long" (314 : Nat) (6148914691236517205 : Int64)) ∈ lw_all := lw_g (lw_at lw_m9 120 rfl) rfl
theorem q2088 : (Jvm.Cond.constantLong "java/lang/Long" (316 : Nat) (3689348814741910323 : Int64)) ∈ lw_all := lw_g (lw_at lw_m9 121 rfl) rfl
theorem q2089 : (Jvm.Cond.constantLong "java/lang/Long" (318 : Nat) (1085102592571150095 : Int64)) ∈ lw_all := lw_g (lw_at lw_m9 122 rfl) rfl

/-! java/util/ArrayDeque$DeqIterator -/
set_option maxRecDepth 100000
def RJ40 : String := "java/util/ArrayDeque$DeqIterator"
def TJ40 : u_T := fun k => match k with
  | 0 => ("java/util/ArrayDeque$DeqIterator", "cursor", "I", false)
  | 1 => ("java/util/ArrayDeque$DeqIterator", "remaining", "I", false)
  | 2 => ("java/util/ArrayDeque$DeqIterator", "lastRet", "I", false)
  | _ => ("java/util/ArrayDeque$DeqIterator", "this$0", "Ljava/util/ArrayDeque;", true)
def tyJ40 : Nat → FieldType := fun k => match k with
  | 0 => .int
  | 1 => .int
  | 2 => .int
  | _ => .object "java/util/ArrayDeque"
abbrev wsJ400 : List Cond := u_ws RJ40 TJ40 4
theorem nmJ40 : ∀ a, a < 4 → ∀ b, b < 4 → a ≠ b → (TJ40 a).2.1 ≠ (TJ40 b).2.1 := by decide +kernel
theorem tyJ40_ok : ∀ k, k < 4 → parseFieldDescriptor (TJ40 k).2.2.1 = some (tyJ40 k) := by decide +kernel
abbrev cJ40_hasNext : ByteArray := prog_55_method_2_code
def yJ40_hasNext : MethodName := ⟨RJ40, "hasNext", "()Z"⟩
def dkwJ40_hasNext_0 : List UInt8 := [42, 180, 0, 19, 158, 0, 7, 4, 167, 0, 4, 3, 172]
abbrev dktJ40_hasNext_0 : List UInt8 := dkwJ40_hasNext_0 ++ []
theorem dksJ40_hasNext_0 : cJ40_hasNext.data.toList.drop 0 = dktJ40_hasNext_0 := by decide +kernel
theorem dJ40_hasNext_0 : decode cJ40_hasNext 0 = .ok (.aload_n 0, 1) := dk_42 (dk_at dksJ40_hasNext_0 0 rfl rfl)
theorem dJ40_hasNext_1 : decode cJ40_hasNext 1 = .ok (.getfield 19, 3) := dk_180 0 19 (dk_at dksJ40_hasNext_0 1 rfl rfl)
theorem dJ40_hasNext_4 : decode cJ40_hasNext 4 = .ok (.ifCond .le 7, 3) := dk_158 0 7 (dk_at dksJ40_hasNext_0 4 rfl rfl)
theorem dJ40_hasNext_7 : decode cJ40_hasNext 7 = .ok (.iconst 1, 1) := dk_4 (dk_at dksJ40_hasNext_0 7 rfl rfl)
theorem dJ40_hasNext_8 : decode cJ40_hasNext 8 = .ok (.goto 4, 3) := dk_167 0 4 (dk_at dksJ40_hasNext_0 8 rfl rfl)
theorem dJ40_hasNext_11 : decode cJ40_hasNext 11 = .ok (.iconst 0, 1) := dk_3 (dk_at dksJ40_hasNext_0 11 rfl rfl)
theorem dJ40_hasNext_12 : decode cJ40_hasNext 12 = .ok (.ireturn, 1) := dk_172 (dk_at dksJ40_hasNext_0 12 rfl rfl)
abbrev cJ40_next : ByteArray := prog_55_method_3_code
def yJ40_next : MethodName := ⟨RJ40, "next", "()Ljava/lang/Object;"⟩
def dkwJ40_next_2 : List UInt8 := [181, 0, 29, 42, 89, 180, 0, 19, 4, 100, 181, 0, 19, 44, 176]
abbrev dktJ40_next_2 : List UInt8 := dkwJ40_next_2 ++ []
def dkwJ40_next_1 : List UInt8 := [42, 180, 0, 29, 184, 0, 39, 77, 42, 42, 42, 180, 0, 29, 90, 181, 0, 23, 43, 190, 184, 0, 43]
abbrev dktJ40_next_1 : List UInt8 := dkwJ40_next_1 ++ dktJ40_next_2
def dkwJ40_next_0 : List UInt8 := [42, 180, 0, 19, 157, 0, 11, 187, 0, 32, 89, 183, 0, 34, 191, 42, 180, 0, 1, 180, 0, 35, 76, 43]
abbrev dktJ40_next_0 : List UInt8 := dkwJ40_next_0 ++ dktJ40_next_1
theorem dksJ40_next_0 : cJ40_next.data.toList.drop 0 = dktJ40_next_0 := by decide +kernel
theorem dksJ40_next_1 : cJ40_next.data.toList.drop 24 = dktJ40_next_1 := dk_seg dksJ40_next_0 24 rfl rfl
theorem dksJ40_next_2 : cJ40_next.data.toList.drop 47 = dktJ40_next_2 := dk_seg dksJ40_next_1 23 rfl rfl
theorem dJ40_next_0 : decode cJ40_next 0 = .ok (.aload_n 0, 1) := dk_42 (dk_at dksJ40_next_0 0 rfl rfl)
theorem dJ40_next_1 : decode cJ40_next 1 = .ok (.getfield 19, 3) := dk_180 0 19 (dk_at dksJ40_next_0 1 rfl rfl)
theorem dJ40_next_4 : decode cJ40_next 4 = .ok (.ifCond .gt 11, 3) := dk_157 0 11 (dk_at dksJ40_next_0 4 rfl rfl)
theorem dJ40_next_7 : decode cJ40_next 7 = .ok (.new 32, 3) := dk_187 0 32 (dk_at dksJ40_next_0 7 rfl rfl)
theorem dJ40_next_10 : decode cJ40_next 10 = .ok (.dup, 1) := dk_89 (dk_at dksJ40_next_0 10 rfl rfl)
theorem dJ40_next_11 : decode cJ40_next 11 = .ok (.invokespecial 34, 3) := dk_183 0 34 (dk_at dksJ40_next_0 11 rfl rfl)
theorem dJ40_next_14 : decode cJ40_next 14 = .ok (.athrow, 1) := dk_191 (dk_at dksJ40_next_0 14 rfl rfl)
theorem dJ40_next_15 : decode cJ40_next 15 = .ok (.aload_n 0, 1) := dk_42 (dk_at dksJ40_next_0 15 rfl rfl)
theorem dJ40_next_16 : decode cJ40_next 16 = .ok (.getfield 1, 3) := dk_180 0 1 (dk_at dksJ40_next_0 16 rfl rfl)
theorem dJ40_next_19 : decode cJ40_next 19 = .ok (.getfield 35, 3) := dk_180 0 35 (dk_at dksJ40_next_0 19 rfl rfl)
theorem dJ40_next_22 : decode cJ40_next 22 = .ok (.astore_n 1, 1) := dk_76 (dk_at dksJ40_next_0 22 rfl rfl)
theorem dJ40_next_23 : decode cJ40_next 23 = .ok (.aload_n 1, 1) := dk_43 (dk_at dksJ40_next_0 23 rfl rfl)
theorem dJ40_next_24 : decode cJ40_next 24 = .ok (.aload_n 0, 1) := dk_42 (dk_at dksJ40_next_1 0 rfl rfl)
theorem dJ40_next_25 : decode cJ40_next 25 = .ok (.getfield 29, 3) := dk_180 0 29 (dk_at dksJ40_next_1 1 rfl rfl)
theorem dJ40_next_28 : decode cJ40_next 28 = .ok (.invokestatic 39, 3) := dk_184 0 39 (dk_at dksJ40_next_1 4 rfl rfl)
theorem dJ40_next_31 : decode cJ40_next 31 = .ok (.astore_n 2, 1) := dk_77 (dk_at dksJ40_next_1 7 rfl rfl)
theorem dJ40_next_32 : decode cJ40_next 32 = .ok (.aload_n 0, 1) := dk_42 (dk_at dksJ40_next_1 8 rfl rfl)
theorem dJ40_next_33 : decode cJ40_next 33 = .ok (.aload_n 0, 1) := dk_42 (dk_at dksJ40_next_1 9 rfl rfl)
theorem dJ40_next_34 : decode cJ40_next 34 = .ok (.aload_n 0, 1) := dk_42 (dk_at dksJ40_next_1 10 rfl rfl)
theorem dJ40_next_35 : decode cJ40_next 35 = .ok (.getfield 29, 3) := dk_180 0 29 (dk_at dksJ40_next_1 11 rfl rfl)
theorem dJ40_next_38 : decode cJ40_next 38 = .ok (.dup_x1, 1) := dk_90 (dk_at dksJ40_next_1 14 rfl rfl)
theorem dJ40_next_39 : decode cJ40_next 39 = .ok (.putfield 23, 3) := dk_181 0 23 (dk_at dksJ40_next_1 15 rfl rfl)
theorem dJ40_next_42 : decode cJ40_next 42 = .ok (.aload_n 1, 1) := dk_43 (dk_at dksJ40_next_1 18 rfl rfl)
theorem dJ40_next_43 : decode cJ40_next 43 = .ok (.arraylength, 1) := dk_190 (dk_at dksJ40_next_1 19 rfl rfl)
theorem dJ40_next_44 : decode cJ40_next 44 = .ok (.invokestatic 43, 3) := dk_184 0 43 (dk_at dksJ40_next_1 20 rfl rfl)
theorem dJ40_next_47 : decode cJ40_next 47 = .ok (.putfield 29, 3) := dk_181 0 29 (dk_at dksJ40_next_2 0 rfl rfl)
theorem dJ40_next_50 : decode cJ40_next 50 = .ok (.aload_n 0, 1) := dk_42 (dk_at dksJ40_next_2 3 rfl rfl)
theorem dJ40_next_51 : decode cJ40_next 51 = .ok (.dup, 1) := dk_89 (dk_at dksJ40_next_2 4 rfl rfl)
theorem dJ40_next_52 : decode cJ40_next 52 = .ok (.getfield 19, 3) := dk_180 0 19 (dk_at dksJ40_next_2 5 rfl rfl)
theorem dJ40_next_55 : decode cJ40_next 55 = .ok (.iconst 1, 1) := dk_4 (dk_at dksJ40_next_2 8 rfl rfl)
theorem dJ40_next_56 : decode cJ40_next 56 = .ok (.isub, 1) := dk_100 (dk_at dksJ40_next_2 9 rfl rfl)
theorem dJ40_next_57 : decode cJ40_next 57 = .ok (.putfield 19, 3) := dk_181 0 19 (dk_at dksJ40_next_2 10 rfl rfl)
theorem dJ40_next_60 : decode cJ40_next 60 = .ok (.aload_n 2, 1) := dk_44 (dk_at dksJ40_next_2 13 rfl rfl)
theorem dJ40_next_61 : decode cJ40_next 61 = .ok (.areturn, 1) := dk_176 (dk_at dksJ40_next_2 14 rfl rfl)
abbrev cJ40_remove : ByteArray := prog_55_method_5_code
def yJ40_remove : MethodName := ⟨RJ40, "remove", "()V"⟩
def dkwJ40_remove_1 : List UInt8 := [182, 0, 53, 182, 0, 57, 42, 2, 181, 0, 23, 177]
abbrev dktJ40_remove_1 : List UInt8 := dkwJ40_remove_1 ++ []
def dkwJ40_remove_0 : List UInt8 := [42, 180, 0, 23, 156, 0, 11, 187, 0, 50, 89, 183, 0, 52, 191, 42, 42, 180, 0, 1, 42, 180, 0, 23]
abbrev dktJ40_remove_0 : List UInt8 := dkwJ40_remove_0 ++ dktJ40_remove_1
theorem dksJ40_remove_0 : cJ40_remove.data.toList.drop 0 = dktJ40_remove_0 := by decide +kernel
theorem dksJ40_remove_1 : cJ40_remove.data.toList.drop 24 = dktJ40_remove_1 := dk_seg dksJ40_remove_0 24 rfl rfl
theorem dJ40_remove_0 : decode cJ40_remove 0 = .ok (.aload_n 0, 1) := dk_42 (dk_at dksJ40_remove_0 0 rfl rfl)
theorem dJ40_remove_1 : decode cJ40_remove 1 = .ok (.getfield 23, 3) := dk_180 0 23 (dk_at dksJ40_remove_0 1 rfl rfl)
theorem dJ40_remove_4 : decode cJ40_remove 4 = .ok (.ifCond .ge 11, 3) := dk_156 0 11 (dk_at dksJ40_remove_0 4 rfl rfl)
theorem dJ40_remove_7 : decode cJ40_remove 7 = .ok (.new 50, 3) := dk_187 0 50 (dk_at dksJ40_remove_0 7 rfl rfl)
theorem dJ40_remove_10 : decode cJ40_remove 10 = .ok (.dup, 1) := dk_89 (dk_at dksJ40_remove_0 10 rfl rfl)
theorem dJ40_remove_11 : decode cJ40_remove 11 = .ok (.invokespecial 52, 3) := dk_183 0 52 (dk_at dksJ40_remove_0 11 rfl rfl)
theorem dJ40_remove_14 : decode cJ40_remove 14 = .ok (.athrow, 1) := dk_191 (dk_at dksJ40_remove_0 14 rfl rfl)
theorem dJ40_remove_15 : decode cJ40_remove 15 = .ok (.aload_n 0, 1) := dk_42 (dk_at dksJ40_remove_0 15 rfl rfl)
theorem dJ40_remove_16 : decode cJ40_remove 16 = .ok (.aload_n 0, 1) := dk_42 (dk_at dksJ40_remove_0 16 rfl rfl)
theorem dJ40_remove_17 : decode cJ40_remove 17 = .ok (.getfield 1, 3) := dk_180 0 1 (dk_at dksJ40_remove_0 17 rfl rfl)
theorem dJ40_remove_20 : decode cJ40_remove 20 = .ok (.aload_n 0, 1) := dk_42 (dk_at dksJ40_remove_0 20 rfl rfl)
theorem dJ40_remove_21 : decode cJ40_remove 21 = .ok (.getfield 23, 3) := dk_180 0 23 (dk_at dksJ40_remove_0 21 rfl rfl)
theorem dJ40_remove_24 : decode cJ40_remove 24 = .ok (.invokevirtual 53, 3) := dk_182 0 53 (dk_at dksJ40_remove_1 0 rfl rfl)
theorem dJ40_remove_27 : decode cJ40_remove 27 = .ok (.invokevirtual 57, 3) := dk_182 0 57 (dk_at dksJ40_remove_1 3 rfl rfl)
theorem dJ40_remove_30 : decode cJ40_remove 30 = .ok (.aload_n 0, 1) := dk_42 (dk_at dksJ40_remove_1 6 rfl rfl)
theorem dJ40_remove_31 : decode cJ40_remove 31 = .ok (.iconst (-1), 1) := dk_2 (dk_at dksJ40_remove_1 7 rfl rfl)
theorem dJ40_remove_32 : decode cJ40_remove 32 = .ok (.putfield 23, 3) := dk_181 0 23 (dk_at dksJ40_remove_1 8 rfl rfl)
theorem dJ40_remove_35 : decode cJ40_remove 35 = .ok (.return_, 1) := dk_177 (dk_at dksJ40_remove_1 11 rfl rfl)
abbrev cJ40_postDelete : ByteArray := prog_55_method_4_code
def yJ40_postDelete : MethodName := ⟨RJ40, "postDelete", "(Z)V"⟩
def dkwJ40_postDelete_0 : List UInt8 := [27, 153, 0, 22, 42, 42, 180, 0, 29, 42, 180, 0, 1, 180, 0, 35, 190, 184, 0, 47, 181, 0, 29, 177]
abbrev dktJ40_postDelete_0 : List UInt8 := dkwJ40_postDelete_0 ++ []
theorem dksJ40_postDelete_0 : cJ40_postDelete.data.toList.drop 0 = dktJ40_postDelete_0 := by decide +kernel
theorem dJ40_postDelete_0 : decode cJ40_postDelete 0 = .ok (.iload_n 1, 1) := dk_27 (dk_at dksJ40_postDelete_0 0 rfl rfl)
theorem dJ40_postDelete_1 : decode cJ40_postDelete 1 = .ok (.ifCond .eq 22, 3) := dk_153 0 22 (dk_at dksJ40_postDelete_0 1 rfl rfl)
theorem dJ40_postDelete_4 : decode cJ40_postDelete 4 = .ok (.aload_n 0, 1) := dk_42 (dk_at dksJ40_postDelete_0 4 rfl rfl)
theorem dJ40_postDelete_5 : decode cJ40_postDelete 5 = .ok (.aload_n 0, 1) := dk_42 (dk_at dksJ40_postDelete_0 5 rfl rfl)
theorem dJ40_postDelete_6 : decode cJ40_postDelete 6 = .ok (.getfield 29, 3) := dk_180 0 29 (dk_at dksJ40_postDelete_0 6 rfl rfl)
theorem dJ40_postDelete_9 : decode cJ40_postDelete 9 = .ok (.aload_n 0, 1) := dk_42 (dk_at dksJ40_postDelete_0 9 rfl rfl)
theorem dJ40_postDelete_10 : decode cJ40_postDelete 10 = .ok (.getfield 1, 3) := dk_180 0 1 (dk_at dksJ40_postDelete_0 10 rfl rfl)
theorem dJ40_postDelete_13 : decode cJ40_postDelete 13 = .ok (.getfield 35, 3) := dk_180 0 35 (dk_at dksJ40_postDelete_0 13 rfl rfl)
theorem dJ40_postDelete_16 : decode cJ40_postDelete 16 = .ok (.arraylength, 1) := dk_190 (dk_at dksJ40_postDelete_0 16 rfl rfl)
theorem dJ40_postDelete_17 : decode cJ40_postDelete 17 = .ok (.invokestatic 47, 3) := dk_184 0 47 (dk_at dksJ40_postDelete_0 17 rfl rfl)
theorem dJ40_postDelete_20 : decode cJ40_postDelete 20 = .ok (.putfield 29, 3) := dk_181 0 29 (dk_at dksJ40_postDelete_0 20 rfl rfl)
theorem dJ40_postDelete_23 : decode cJ40_postDelete 23 = .ok (.return_, 1) := dk_177 (dk_at dksJ40_postDelete_0 23 rfl rfl)
abbrev cJ40_init : ByteArray := prog_55_method_1_code
def yJ40_init : MethodName := ⟨RJ40, "<init>", "(Ljava/util/ArrayDeque;)V"⟩
def dkwJ40_init_1 : List UInt8 := [181, 0, 23, 42, 43, 180, 0, 26, 181, 0, 29, 177]
abbrev dktJ40_init_1 : List UInt8 := dkwJ40_init_1 ++ []
def dkwJ40_init_0 : List UInt8 := [42, 43, 181, 0, 1, 42, 183, 0, 7, 42, 42, 180, 0, 1, 182, 0, 13, 181, 0, 19, 42, 2]
abbrev dktJ40_init_0 : List UInt8 := dkwJ40_init_0 ++ dktJ40_init_1
theorem dksJ40_init_0 : cJ40_init.data.toList.drop 0 = dktJ40_init_0 := by decide +kernel
theorem dksJ40_init_1 : cJ40_init.data.toList.drop 22 = dktJ40_init_1 := dk_seg dksJ40_init_0 22 rfl rfl
theorem dJ40_init_0 : decode cJ40_init 0 = .ok (.aload_n 0, 1) := dk_42 (dk_at dksJ40_init_0 0 rfl rfl)
theorem dJ40_init_1 : decode cJ40_init 1 = .ok (.aload_n 1, 1) := dk_43 (dk_at dksJ40_init_0 1 rfl rfl)
theorem dJ40_init_2 : decode cJ40_init 2 = .ok (.putfield 1, 3) := dk_181 0 1 (dk_at dksJ40_init_0 2 rfl rfl)
theorem dJ40_init_5 : decode cJ40_init 5 = .ok (.aload_n 0, 1) := dk_42 (dk_at dksJ40_init_0 5 rfl rfl)
theorem dJ40_init_6 : decode cJ40_init 6 = .ok (.invokespecial 7, 3) := dk_183 0 7 (dk_at dksJ40_init_0 6 rfl rfl)
theorem dJ40_init_9 : decode cJ40_init 9 = .ok (.aload_n 0, 1) := dk_42 (dk_at dksJ40_init_0 9 rfl rfl)
theorem dJ40_init_10 : decode cJ40_init 10 = .ok (.aload_n 0, 1) := dk_42 (dk_at dksJ40_init_0 10 rfl rfl)
theorem dJ40_init_11 : decode cJ40_init 11 = .ok (.getfield 1, 3) := dk_180 0 1 (dk_at dksJ40_init_0 11 rfl rfl)
theorem dJ40_init_14 : decode cJ40_init 14 = .ok (.invokevirtual 13, 3) := dk_182 0 13 (dk_at dksJ40_init_0 14 rfl rfl)
theorem dJ40_init_17 : decode cJ40_init 17 = .ok (.putfield 19, 3) := dk_181 0 19 (dk_at dksJ40_init_0 17 rfl rfl)
theorem dJ40_init_20 : decode cJ40_init 20 = .ok (.aload_n 0, 1) := dk_42 (dk_at dksJ40_init_0 20 rfl rfl)
theorem dJ40_init_21 : decode cJ40_init 21 = .ok (.iconst (-1), 1) := dk_2 (dk_at dksJ40_init_0 21 rfl rfl)
theorem dJ40_init_22 : decode cJ40_init 22 = .ok (.putfield 23, 3) := dk_181 0 23 (dk_at dksJ40_init_1 0 rfl rfl)
theorem dJ40_init_25 : decode cJ40_init 25 = .ok (.aload_n 0, 1) := dk_42 (dk_at dksJ40_init_1 3 rfl rfl)
theorem dJ40_init_26 : decode cJ40_init 26 = .ok (.aload_n 1, 1) := dk_43 (dk_at dksJ40_init_1 4 rfl rfl)
theorem dJ40_init_27 : decode cJ40_init 27 = .ok (.getfield 26, 3) := dk_180 0 26 (dk_at dksJ40_init_1 5 rfl rfl)
theorem dJ40_init_30 : decode cJ40_init 30 = .ok (.putfield 29, 3) := dk_181 0 29 (dk_at dksJ40_init_1 8 rfl rfl)
theorem dJ40_init_33 : decode cJ40_init 33 = .ok (.return_, 1) := dk_177 (dk_at dksJ40_init_1 11 rfl rfl)
theorem q106 : (Jvm.Cond.initialized "java/util/ArrayDeque$DeqIterator") ∈ lw_all := lw_g (lw_at lw_m1 59 rfl) rfl
theorem q539 : (Jvm.Cond.fieldLink "java/util/ArrayDeque$DeqIterator" (35 : Nat) "java/util/ArrayDeque" "elements" "[Ljava/lang/Object;") ∈ lw_all := lw_g (lw_at lw_m3 12 rfl) rfl
theorem q540 : (Jvm.Cond.fieldLink "java/util/ArrayDeque$DeqIterator" (26 : Nat) "java/util/ArrayDeque" "head" "I") ∈ lw_all := lw_g (lw_at lw_m3 13 rfl) rfl
theorem q682 : (Jvm.Cond.castable "java/util/ArrayDeque$DeqIterator" "java/util/Iterator") ∈ lw_tbl := lw_at lw_m3 155 rfl
theorem q683 : (Jvm.Cond.selects "java/util/ArrayDeque$DeqIterator" ({ cls := "java/util/Iterator", name := "hasNext", desc := "()Z" } : Jvm.MethodName) ({ cls := "java/util/ArrayDeque$DeqIterator", name := "hasNext", desc := "()Z" } : Jvm.MethodName)) ∈ lw_all := lw_g (lw_at lw_m3 156 rfl) rfl
theorem q684 : (Jvm.Cond.unhidden "java/util/ArrayDeque$DeqIterator" "hasNext" "()Z") ∈ lw_tbl := lw_at lw_m3 157 rfl
theorem q685 : (Jvm.Cond.instanceMethod ({ cls := "java/util/ArrayDeque$DeqIterator", name := "hasNext", desc := "()Z" } : Jvm.MethodName)) ∈ lw_all := lw_g (lw_at lw_m3 158 rfl) rfl
theorem q686 : (Jvm.Cond.publicMethod ({ cls := "java/util/ArrayDeque$DeqIterator", name := "hasNext", desc := "()Z" } : Jvm.MethodName)) ∈ lw_tbl := lw_at lw_m3 159 rfl
theorem q687 : (Jvm.Cond.code ({ cls := "java/util/ArrayDeque$DeqIterator", name := "hasNext", desc := "()Z" } : Jvm.MethodName) prog_55_method_2_code (1 : Nat) (Option.some Jvm.ClassFile.FieldType.boolean)) ∈ lw_all := lw_g (lw_at lw_m3 160 rfl) rfl
theorem q847 : (Jvm.Cond.selects "java/util/ArrayDeque$DeqIterator" ({ cls := "java/lang/Object", name := "getClass", desc := "()Ljava/lang/Class;" } : Jvm.MethodName) ({ cls := "java/lang/Object", name := "getClass", desc := "()Ljava/lang/Class;" } : Jvm.MethodName)) ∈ lw_all := lw_g (lw_at lw_m4 80 rfl) rfl
theorem q891 : (Jvm.Cond.selects "java/util/ArrayDeque$DeqIterator" ({ cls := "java/util/Iterator", name := "next", desc := "()Ljava/lang/Object;" } : Jvm.MethodName) ({ cls := "java/util/ArrayDeque$DeqIterator", name := "next", desc := "()Ljava/lang/Object;" } : Jvm.MethodName)) ∈ lw_all := lw_g (lw_at lw_m4 124 rfl) rfl
theorem q892 : (Jvm.Cond.unhidden "java/util/ArrayDeque$DeqIterator" "next" "()Ljava/lang/Object;") ∈ lw_tbl := lw_at lw_m4 125 rfl
theorem q893 : (Jvm.Cond.instanceMethod ({ cls := "java/util/ArrayDeque$DeqIterator", name := "next", desc := "()Ljava/lang/Object;" } : Jvm.MethodName)) ∈ lw_all := lw_g (lw_at lw_m4 126 rfl) rfl
theorem q894 : (Jvm.Cond.publicMethod ({ cls := "java/util/ArrayDeque$DeqIterator", name := "next", desc := "()Ljava/lang/Object;" } : Jvm.MethodName)) ∈ lw_tbl := lw_at lw_m4 127 rfl
theorem q895 : (Jvm.Cond.code ({ cls := "java/util/ArrayDeque$DeqIterator", name := "next", desc := "()Ljava/lang/Object;" } : Jvm.MethodName) prog_55_method_3_code (3 : Nat) (Option.some (Jvm.ClassFile.FieldType.object "java/lang/Object"))) ∈ lw_all := lw_g (lw_at lw_m4 128 rfl) rfl
theorem q896 : (Jvm.Cond.classLink "java/util/ArrayDeque$DeqIterator" (32 : Nat) "java/util/NoSuchElementException") ∈ lw_all := lw_g (lw_at lw_m4 129 rfl) rfl
theorem q897 : (Jvm.Cond.methodLink "java/util/ArrayDeque$DeqIterator" (34 : Nat) ({ cls := "java/util/NoSuchElementException", name := "<init>", desc := "()V" } : Jvm.MethodName)) ∈ lw_all := lw_g (lw_at lw_m4 130 rfl) rfl
theorem q907 : (Jvm.Cond.methodLink "java/util/ArrayDeque$DeqIterator" (39 : Nat) ({ cls := "java/util/ArrayDeque", name := "nonNullElementAt", desc := "([Ljava/lang/Object;I)Ljava/lang/Object;" } : Jvm.MethodName)) ∈ lw_all := lw_g (lw_at lw_m4 140 rfl) rfl
theorem q910 : (Jvm.Cond.methodLink "java/util/ArrayDeque$DeqIterator" (43 : Nat) ({ cls := "java/util/ArrayDeque", name := "inc", desc := "(II)I" } : Jvm.MethodName)) ∈ lw_all := lw_g (lw_at lw_m4 143 rfl) rfl
theorem q1502 : (Jvm.Cond.selects "java/util/ArrayDeque$DeqIterator" ({ cls := "java/util/Iterator", name := "remove", desc := "()V" } : Jvm.MethodName) ({ cls := "java/util/ArrayDeque$DeqIterator", name := "remove", desc := "()V" } : Jvm.MethodName)) ∈ lw_all := lw_g (lw_at lw_m7 15 rfl) rfl
theorem q1503 : (Jvm.Cond.unhidden "java/util/ArrayDeque$DeqIterator" "remove" "()V") ∈ lw_tbl := lw_at lw_m7 16 rfl
theorem q1504 : (Jvm.Cond.instanceMethod ({ cls := "java/util/ArrayDeque$DeqIterator", name := "remove", desc := "()V" } : Jvm.MethodName)) ∈ lw_all := lw_g (lw_at lw_m7 17 rfl) rfl
theorem q1505 : (Jvm.Cond.publicMethod ({ cls := "java/util/ArrayDeque$DeqIterator", name := "remove", desc := "()V" } : Jvm.MethodName)) ∈ lw_tbl := lw_at lw_m7 18 rfl
theorem q1506 : (Jvm.Cond.code ({ cls := "java/util/ArrayDeque$DeqIterator", name := "remove", desc := "()V" } : Jvm.MethodName) prog_55_method_5_code (1 : Nat) (Option.none : Option Jvm.ClassFile.FieldType)) ∈ lw_all := lw_g (lw_at lw_m7 19 rfl) rfl
theorem q1507 : (Jvm.Cond.classLink "java/util/ArrayDeque$DeqIterator" (50 : Nat) "java/lang/IllegalStateException") ∈ lw_all := lw_g (lw_at lw_m7 20 rfl) rfl
theorem q1508 : (Jvm.Cond.methodLink "java/util/ArrayDeque$DeqIterator" (52 : Nat) ({ cls := "java/lang/IllegalStateException", name := "<init>", desc := "()V" } : Jvm.MethodName)) ∈ lw_all := lw_g (lw_at lw_m7 21 rfl) rfl
theorem q1509 : (Jvm.Cond.methodLink "java/util/ArrayDeque$DeqIterator" (53 : Nat) ({ cls := "java/util/ArrayDeque", name := "delete", desc := "(I)Z" } : Jvm.MethodName)) ∈ lw_all := lw_g (lw_at lw_m7 22 rfl) rfl
theorem q1514 : (Jvm.Cond.methodLink "java/util/ArrayDeque$DeqIterator" (57 : Nat) ({ cls := "java/util/ArrayDeque$DeqIterator", name := "postDelete", desc := "(Z)V" } : Jvm.MethodName)) ∈ lw_all := lw_g (lw_at lw_m7 27 rfl) rfl
theorem q1515 : (Jvm.Cond.instanceMethod ({ cls := "java/util/ArrayDeque$DeqIterator", name := "postDelete", desc := "(Z)V" } : Jvm.MethodName)) ∈ lw_all := lw_g (lw_at lw_m7 28 rfl) rfl
theorem q1516 : (Jvm.Cond.selects "java/util/ArrayDeque$DeqIterator" ({ cls := "java/util/ArrayDeque$DeqIterator", name := "postDelete", desc := "(Z)V" } : Jvm.MethodName) ({ cls := "java/util/ArrayDeque$DeqIterator", name := "postDelete", desc := "(Z)V" } : Jvm.MethodName)) ∈ lw_all := lw_g (lw_at lw_m7 29 rfl) rfl
theorem q1517 : (Jvm.Cond.code ({ cls := "java/util/ArrayDeque$DeqIterator", name := "postDelete", desc := "(Z)V" } : Jvm.MethodName) prog_55_method_4_code (2 : Nat) (Option.none : Option Jvm.ClassFile.FieldType)) ∈ lw_all := lw_g (lw_at lw_m7 30 rfl) rfl
theorem q1518 : (Jvm.Cond.methodLink "java/util/ArrayDeque$DeqIterator" (47 : Nat) ({ cls := "java/util/ArrayDeque", name := "dec", desc := "(II)I" } : Jvm.MethodName)) ∈ lw_all := lw_g (lw_at lw_m7 31 rfl) rfl
theorem q2133 : (Jvm.Cond.instantiable "java/util/ArrayDeque$DeqIterator" (4 : Nat)) ∈ lw_all := lw_g (lw_at lw_m9 166 rfl) rfl
theorem q2135 : (Jvm.Cond.instanceMethod ({ cls := "java/util/ArrayDeque$DeqIterator", name := "<init>", desc := "(Ljava/util/ArrayDeque;)V" } : Jvm.MethodName)) ∈ lw_all := lw_g (lw_at lw_m9 168 rfl) rfl
theorem q2136 : (Jvm.Cond.code ({ cls := "java/util/ArrayDeque$DeqIterator", name := "<init>", desc := "(Ljava/util/ArrayDeque;)V" } : Jvm.MethodName) prog_55_method_1_code (2 : Nat) (Option.none : Option Jvm.ClassFile.FieldType)) ∈ lw_all := lw_g (lw_at lw_m9 169 rfl) rfl
theorem q2137 : (Jvm.Cond.methodLink "java/util/ArrayDeque$DeqIterator" (7 : Nat) ({ cls := "java/lang/Object", name := "<init>", desc := "()V" } : Jvm.MethodName)) ∈ lw_all := lw_g (lw_at lw_m9 170 rfl) rfl
theorem q2138 : (Jvm.Cond.methodLink "java/util/ArrayDeque$DeqIterator" (13 : Nat) ({ cls := "java/util/ArrayDeque", name := "size", desc := "()I" } : Jvm.MethodName)) ∈ lw_all := lw_g (lw_at lw_m9 171 rfl) rfl
theorem q2139 : (Jvm.Cond.fieldLink "java/util/ArrayDeque$DeqIterator" (29 : Nat) "java/util/ArrayDeque$DeqIterator" "cursor" "I") ∈ lw_all := lw_g (lw_at lw_m9 172 rfl) rfl
theorem q2140 : (Jvm.Cond.fieldLink "java/util/ArrayDeque$DeqIterator" (19 : Nat) "java/util/ArrayDeque$DeqIterator" "remaining" "I") ∈ lw_all := lw_g (lw_at lw_m9 173 rfl) rfl
theorem q2141 : (Jvm.Cond.fieldLink "java/util/ArrayDeque$DeqIterator" (23 : Nat) "java/util/ArrayDeque$DeqIterator" "lastRet" "I") ∈ lw_all := lw_g (lw_at lw_m9 174 rfl) rfl
theorem q2142 : (Jvm.Cond.fieldLink "java/util/ArrayDeque$DeqIterator" (1 : Nat) "java/util/ArrayDeque$DeqIterator" "this$0" "Ljava/util/ArrayDeque;") ∈ lw_all := lw_g (lw_at lw_m9 175 rfl) rfl
theorem q2143 : (Jvm.Cond.lays "java/util/ArrayDeque$DeqIterator" "java/util/ArrayDeque$DeqIterator" "cursor" "I") ∈ lw_all := lw_g (lw_at lw_m9 176 rfl) rfl
theorem q2144 : (Jvm.Cond.soleField "java/util/ArrayDeque$DeqIterator" "cursor") ∈ lw_all := lw_g (lw_at lw_m9 177 rfl) rfl
theorem q2145 : (Jvm.Cond.lays "java/util/ArrayDeque$DeqIterator" "java/util/ArrayDeque$DeqIterator" "remaining" "I") ∈ lw_all := lw_g (lw_at lw_m9 178 rfl) rfl
theorem q2146 : (Jvm.Cond.soleField "java/util/ArrayDeque$DeqIterator" "remaining") ∈ lw_all := lw_g (lw_at lw_m9 179 rfl) rfl
theorem q2147 : (Jvm.Cond.lays "java/util/ArrayDeque$DeqIterator" "java/util/ArrayDeque$DeqIterator" "lastRet" "I") ∈ lw_all := lw_g (lw_at lw_m9 180 rfl) rfl
theorem q2148 : (Jvm.Cond.soleField "java/util/ArrayDeque$DeqIterator" "lastRet") ∈ lw_all := lw_g (lw_at lw_m9 181 rfl) rfl
theorem q2149 : (Jvm.Cond.laysFinal "java/util/ArrayDeque$DeqIterator" "java/util/ArrayDeque$DeqIterator" "this$0" "Ljava/util/ArrayDeque;") ∈ lw_all := lw_g (lw_at lw_m9 182 rfl) rfl
theorem q2150 : (Jvm.Cond.soleField "java/util/ArrayDeque$DeqIterator" "this$0") ∈ lw_all := lw_g (lw_at lw_m9 183 rfl) rfl
theorem q2151 : (Jvm.Cond.superclass "java/util/ArrayDeque$DeqIterator" "java/lang/Object") ∈ lw_all := lw_g (lw_at lw_m9 184 rfl) rfl
theorem q2593 : (Jvm.Cond.castable "java/util/ArrayDeque$DeqIterator" "java/lang/Object") ∈ lw_tbl := lw_at lw_m11 146 rfl
theorem in_J40 : ∀ w ∈ wsJ400, w ∈ lw_all := lw_in wsJ400 [2143, 2145, 2147, 2149] (by decide +kernel) (by decide +kernel)

/-! java/lang/ArithmeticException -/
set_option maxRecDepth 100000
def RJ41 : String := "java/lang/ArithmeticException"
def TJ41 : u_T := fun k => match k with
  | 0 => ("java/lang/Throwable", "backtrace", "Ljava/lang/Object;", false)
  | 1 => ("java/lang/Throwable", "detailMessage", "Ljava/lang/String;", false)
  | 2 => ("java/lang/Throwable", "cause", "Ljava/lang/Throwable;", false)
  | 3 => ("java/lang/Throwable", "stackTrace", "[Ljava/lang/StackTraceElement;", false)
  | 4 => ("java/lang/Throwable", "depth", "I", false)
  | _ => ("java/lang/Throwable", "suppressedExceptions", "Ljava/util/List;", false)
def tyJ41 : Nat → FieldType := fun k => match k with
  | 0 => .object "java/lang/Object"
  | 1 => .object "java/lang/String"
  | 2 => .object "java/lang/Throwable"
  | 3 => .array (.object "java/lang/StackTraceElement")
  | 4 => .int
  | _ => .object "java/util/List"
abbrev wsJ410 : List Cond := u_ws RJ41 TJ41 6
theorem nmJ41 : ∀ a, a < 6 → ∀ b, b < 6 → a ≠ b → (TJ41 a).2.1 ≠ (TJ41 b).2.1 := by decide +kernel
theorem tyJ41_ok : ∀ k, k < 6 → parseFieldDescriptor (TJ41 k).2.2.1 = some (tyJ41 k) := by decide +kernel
abbrev cJ41_init : ByteArray := prog_23_method_2_code
def yJ41_init : MethodName := ⟨RJ41, "<init>", "(Ljava/lang/String;)V"⟩
def dkwJ41_init_0 : List UInt8 := [42, 43, 183, 0, 7, 177]
abbrev dktJ41_init_0 : List UInt8 := dkwJ41_init_0 ++ []
theorem dksJ41_init_0 : cJ41_init.data.toList.drop 0 = dktJ41_init_0 := by decide +kernel
theorem dJ41_init_0 : decode cJ41_init 0 = .ok (.aload_n 0, 1) := dk_42 (dk_at dksJ41_init_0 0 rfl rfl)
theorem dJ41_init_1 : decode cJ41_init 1 = .ok (.aload_n 1, 1) := dk_43 (dk_at dksJ41_init_0 1 rfl rfl)
theorem dJ41_init_2 : decode cJ41_init 2 = .ok (.invokespecial 7, 3) := dk_183 0 7 (dk_at dksJ41_init_0 2 rfl rfl)
theorem dJ41_init_5 : decode cJ41_init 5 = .ok (.return_, 1) := dk_177 (dk_at dksJ41_init_0 5 rfl rfl)
abbrev cJ41_init_2 : ByteArray := prog_23_method_1_code
def yJ41_init_2 : MethodName := ⟨RJ41, "<init>", "()V"⟩
theorem dJ41_init_2_0 : decode cJ41_init_2 0 = .ok (.aload_n 0, 1) := by decide +kernel
theorem dJ41_init_2_1 : decode cJ41_init_2 1 = .ok (.invokespecial 1, 3) := by decide +kernel
theorem dJ41_init_2_4 : decode cJ41_init_2 4 = .ok (.return_, 1) := by decide +kernel
theorem q107 : (Jvm.Cond.initialized "java/lang/ArithmeticException") ∈ lw_all := lw_g (lw_at lw_m1 60 rfl) rfl
theorem q190 : (Jvm.Cond.selects "java/lang/ArithmeticException" ({ cls := "java/lang/Throwable", name := "fillInStackTrace", desc := "()Ljava/lang/Throwable;" } : Jvm.MethodName) ({ cls := "java/lang/Throwable", name := "fillInStackTrace", desc := "()Ljava/lang/Throwable;" } : Jvm.MethodName)) ∈ lw_all := lw_g (lw_at lw_m1 143 rfl) rfl
theorem q809 : (Jvm.Cond.selects "java/lang/ArithmeticException" ({ cls := "java/lang/Throwable", name := "toString", desc := "()Ljava/lang/String;" } : Jvm.MethodName) ({ cls := "java/lang/Throwable", name := "toString", desc := "()Ljava/lang/String;" } : Jvm.MethodName)) ∈ lw_all := lw_g (lw_at lw_m4 42 rfl) rfl
theorem q837 : (Jvm.Cond.selects "java/lang/ArithmeticException" ({ cls := "java/lang/Object", name := "getClass", desc := "()Ljava/lang/Class;" } : Jvm.MethodName) ({ cls := "java/lang/Object", name := "getClass", desc := "()Ljava/lang/Class;" } : Jvm.MethodName)) ∈ lw_all := lw_g (lw_at lw_m4 70 rfl) rfl
theorem q863 : (Jvm.Cond.selects "java/lang/ArithmeticException" ({ cls := "java/lang/Throwable", name := "getLocalizedMessage", desc := "()Ljava/lang/String;" } : Jvm.MethodName) ({ cls := "java/lang/Throwable", name := "getLocalizedMessage", desc := "()Ljava/lang/String;" } : Jvm.MethodName)) ∈ lw_all := lw_g (lw_at lw_m4 96 rfl) rfl
theorem q875 : (Jvm.Cond.selects "java/lang/ArithmeticException" ({ cls := "java/lang/Throwable", name := "getMessage", desc := "()Ljava/lang/String;" } : Jvm.MethodName) ({ cls := "java/lang/Throwable", name := "getMessage", desc := "()Ljava/lang/String;" } : Jvm.MethodName)) ∈ lw_all := lw_g (lw_at lw_m4 108 rfl) rfl
theorem q2156 : (Jvm.Cond.instantiable "java/lang/ArithmeticException" (6 : Nat)) ∈ lw_all := lw_g (lw_at lw_m9 189 rfl) rfl
theorem q2157 : (Jvm.Cond.instanceMethod ({ cls := "java/lang/ArithmeticException", name := "<init>", desc := "(Ljava/lang/String;)V" } : Jvm.MethodName)) ∈ lw_all := lw_g (lw_at lw_m9 190 rfl) rfl
theorem q2158 : (Jvm.Cond.code ({ cls := "java/lang/ArithmeticException", name := "<init>", desc := "(Ljava/lang/String;)V" } : Jvm.MethodName) prog_23_method_2_code (2 : Nat) (Option.none : Option Jvm.ClassFile.FieldType)) ∈ lw_all := lw_g (lw_at lw_m9 191 rfl) rfl
theorem q2159 : (Jvm.Cond.methodLink "java/lang/ArithmeticException" (7 : Nat) ({ cls := "java/lang/RuntimeException", name := "<init>", desc := "(Ljava/lang/String;)V" } : Jvm.MethodName)) ∈ lw_all := lw_g (lw_at lw_m9 192 rfl) rfl
theorem q2160 : (Jvm.Cond.lays "java/lang/ArithmeticException" "java/lang/Throwable" "backtrace" "Ljava/lang/Object;") ∈ lw_all := lw_g (lw_at lw_m9 193 rfl) rfl
theorem q2161 : (Jvm.Cond.lays "java/lang/ArithmeticException" "java/lang/Throwable" "detailMessage" "Ljava/lang/String;") ∈ lw_all := lw_g (lw_at lw_m9 194 rfl) rfl
theorem q2162 : (Jvm.Cond.lays "java/lang/ArithmeticException" "java/lang/Throwable" "cause" "Ljava/lang/Throwable;") ∈ lw_all := lw_g (lw_at lw_m9 195 rfl) rfl
theorem q2163 : (Jvm.Cond.lays "java/lang/ArithmeticException" "java/lang/Throwable" "stackTrace" "[Ljava/lang/StackTraceElement;") ∈ lw_all := lw_g (lw_at lw_m9 196 rfl) rfl
theorem q2164 : (Jvm.Cond.lays "java/lang/ArithmeticException" "java/lang/Throwable" "depth" "I") ∈ lw_all := lw_g (lw_at lw_m9 197 rfl) rfl
theorem q2165 : (Jvm.Cond.lays "java/lang/ArithmeticException" "java/lang/Throwable" "suppressedExceptions" "Ljava/util/List;") ∈ lw_all := lw_g (lw_at lw_m9 198 rfl) rfl
theorem q2166 : (Jvm.Cond.superclass "java/lang/ArithmeticException" "java/lang/RuntimeException") ∈ lw_all := lw_g (lw_at lw_m9 199 rfl) rfl
theorem q2167 : (Jvm.Cond.castable "java/lang/ArithmeticException" "java/lang/ArithmeticException") ∈ lw_tbl := lw_at lw_m9 200 rfl
theorem q2168 : (Jvm.Cond.selects "java/lang/ArithmeticException" ({ cls := "java/lang/Throwable", name := "fillInStackTrace", desc := "(I)Ljava/lang/Throwable;" } : Jvm.MethodName) ({ cls := "java/lang/Throwable", name := "fillInStackTrace", desc := "(I)Ljava/lang/Throwable;" } : Jvm.MethodName)) ∈ lw_all := lw_g (lw_at lw_m9 201 rfl) rfl
theorem q2178 : (Jvm.Cond.instanceMethod ({ cls := "java/lang/ArithmeticException", name := "<init>", desc := "()V" } : Jvm.MethodName)) ∈ lw_all := lw_g (lw_at lw_m9 211 rfl) rfl
theorem q2179 : (Jvm.Cond.code ({ cls := "java/lang/ArithmeticException", name := "<init>", desc := "()V" } : Jvm.MethodName) prog_23_method_1_code (1 : Nat) (Option.none : Option Jvm.ClassFile.FieldType)) ∈ lw_all := lw_g (lw_at lw_m9 212 rfl) rfl
theorem q2180 : (Jvm.Cond.methodLink "java/lang/ArithmeticException" (1 : Nat) ({ cls := "java/lang/RuntimeException", name := "<init>", desc := "()V" } : Jvm.MethodName)) ∈ lw_all := lw_g (lw_at lw_m9 213 rfl) rfl
theorem q2594 : (Jvm.Cond.castable "java/lang/ArithmeticException" "java/lang/Object") ∈ lw_tbl := lw_at lw_m11 147 rfl
theorem in_J41 : ∀ w ∈ wsJ410, w ∈ lw_all := lw_in wsJ410 [2160, 2161, 2162, 2163, 2164, 2165] (by decide +kernel) (by decide +kernel)

/-! java/lang/Object -/
set_option maxRecDepth 100000
def RJ42 : String := "java/lang/Object"
abbrev cJ42_init : ByteArray := object_method_1_code
def yJ42_init : MethodName := ⟨RJ42, "<init>", "()V"⟩
theorem dJ42_init_0 : decode cJ42_init 0 = .ok (.return_, 1) := by decide +kernel
theorem q114 : (Jvm.Cond.instanceMethod ({ cls := "java/lang/Object", name := "<init>", desc := "()V" } : Jvm.MethodName)) ∈ lw_all := lw_g (lw_at lw_m1 67 rfl) rfl
theorem q115 : (Jvm.Cond.code ({ cls := "java/lang/Object", name := "<init>", desc := "()V" } : Jvm.MethodName) object_method_1_code (1 : Nat) (Option.none : Option Jvm.ClassFile.FieldType)) ∈ lw_all := lw_g (lw_at lw_m1 68 rfl) rfl
theorem q271 : (Jvm.Cond.native ({ cls := "java/lang/Object", name := "clone", desc := "()Ljava/lang/Object;" } : Jvm.MethodName)) ∈ lw_all := lw_g (lw_at lw_m1 224 rfl) rfl
theorem q272 : (Jvm.Cond.instanceMethod ({ cls := "java/lang/Object", name := "clone", desc := "()Ljava/lang/Object;" } : Jvm.MethodName)) ∈ lw_all := lw_g (lw_at lw_m1 225 rfl) rfl
theorem q819 : (Jvm.Cond.instanceMethod ({ cls := "java/lang/Object", name := "getClass", desc := "()Ljava/lang/Class;" } : Jvm.MethodName)) ∈ lw_all := lw_g (lw_at lw_m4 52 rfl) rfl
theorem q820 : (Jvm.Cond.sameMethod "java/lang/Object" "java/lang/Object" "getClass" "()Ljava/lang/Class;") ∈ lw_all := lw_g (lw_at lw_m4 53 rfl) rfl
theorem q859 : (Jvm.Cond.native ({ cls := "java/lang/Object", name := "getClass", desc := "()Ljava/lang/Class;" } : Jvm.MethodName)) ∈ lw_all := lw_g (lw_at lw_m4 92 rfl) rfl
theorem q2550 : (Jvm.Cond.initialized "java/lang/Object") ∈ lw_all := lw_g (lw_at lw_m11 103 rfl) rfl
theorem q2598 : (Jvm.Cond.declares ({ cls := "java/lang/Object", name := "getClass", desc := "()Ljava/lang/Class;" } : Jvm.MethodName)) ∈ lw_tbl := lw_at lw_m11 151 rfl

/-! java/util/Iterator -/
set_option maxRecDepth 100000
def RJ43 : String := "java/util/Iterator"
abbrev cJ43_remove : ByteArray := prog_71_method_3_code
def yJ43_remove : MethodName := ⟨RJ43, "remove", "()V"⟩
def dkwJ43_remove_0 : List UInt8 := [187, 0, 1, 89, 18, 3, 183, 0, 5, 191]
abbrev dktJ43_remove_0 : List UInt8 := dkwJ43_remove_0 ++ []
theorem dksJ43_remove_0 : cJ43_remove.data.toList.drop 0 = dktJ43_remove_0 := by decide +kernel
theorem dJ43_remove_0 : decode cJ43_remove 0 = .ok (.new 1, 3) := dk_187 0 1 (dk_at dksJ43_remove_0 0 rfl rfl)
theorem dJ43_remove_3 : decode cJ43_remove 3 = .ok (.dup, 1) := dk_89 (dk_at dksJ43_remove_0 3 rfl rfl)
theorem dJ43_remove_4 : decode cJ43_remove 4 = .ok (.ldc 3, 2) := dk_18 3 (dk_at dksJ43_remove_0 4 rfl rfl)
theorem dJ43_remove_6 : decode cJ43_remove 6 = .ok (.invokespecial 5, 3) := dk_183 0 5 (dk_at dksJ43_remove_0 6 rfl rfl)
theorem dJ43_remove_9 : decode cJ43_remove 9 = .ok (.athrow, 1) := dk_191 (dk_at dksJ43_remove_0 9 rfl rfl)
theorem q661 : (Jvm.Cond.interfaceMethod "java/util/Iterator" "java/util/Iterator" "hasNext" "()Z") ∈ lw_tbl := lw_at lw_m3 134 rfl
theorem q662 : (Jvm.Cond.declares ({ cls := "java/util/Iterator", name := "hasNext", desc := "()Z" } : Jvm.MethodName)) ∈ lw_tbl := lw_at lw_m3 135 rfl
theorem q711 : (Jvm.Cond.interfaceMethod "java/util/Iterator" "java/util/Iterator" "next" "()Ljava/lang/Object;") ∈ lw_tbl := lw_at lw_m3 184 rfl
theorem q712 : (Jvm.Cond.declares ({ cls := "java/util/Iterator", name := "next", desc := "()Ljava/lang/Object;" } : Jvm.MethodName)) ∈ lw_tbl := lw_at lw_m3 185 rfl
theorem q1451 : (Jvm.Cond.interfaceMethod "java/util/Iterator" "java/util/Iterator" "remove" "()V") ∈ lw_tbl := lw_at lw_m6 204 rfl
theorem q1452 : (Jvm.Cond.declares ({ cls := "java/util/Iterator", name := "remove", desc := "()V" } : Jvm.MethodName)) ∈ lw_tbl := lw_at lw_m6 205 rfl
theorem q1454 : (Jvm.Cond.instanceMethod ({ cls := "java/util/Iterator", name := "remove", desc := "()V" } : Jvm.MethodName)) ∈ lw_all := lw_g (lw_at lw_m6 207 rfl) rfl
theorem q1455 : (Jvm.Cond.publicMethod ({ cls := "java/util/Iterator", name := "remove", desc := "()V" } : Jvm.MethodName)) ∈ lw_tbl := lw_at lw_m6 208 rfl
theorem q1456 : (Jvm.Cond.code ({ cls := "java/util/Iterator", name := "remove", desc := "()V" } : Jvm.MethodName) prog_71_method_3_code (1 : Nat) (Option.none : Option Jvm.ClassFile.FieldType)) ∈ lw_all := lw_g (lw_at lw_m6 209 rfl) rfl
theorem q1457 : (Jvm.Cond.classLink "java/util/Iterator" (1 : Nat) "java/lang/UnsupportedOperationException") ∈ lw_all := lw_g (lw_at lw_m6 210 rfl) rfl
theorem q1458 : (Jvm.Cond.stringRef "java/util/Iterator" (3 : Nat) "remove") ∈ lw_tbl := lw_at lw_m6 211 rfl
theorem q1459 : (Jvm.Cond.methodLink "java/util/Iterator" (5 : Nat) ({ cls := "java/lang/UnsupportedOperationException", name := "<init>", desc := "(Ljava/lang/String;)V" } : Jvm.MethodName)) ∈ lw_all := lw_g (lw_at lw_m6 212 rfl) rfl

/-! java/util/ImmutableCollections$ListN -/
set_option maxRecDepth 100000
def RJ44 : String := "java/util/ImmutableCollections$ListN"
abbrev cJ44_get : ByteArray := prog_70_method_4_code
def yJ44_get : MethodName := ⟨RJ44, "get", "(I)Ljava/lang/Object;"⟩
def dkwJ44_get_0 : List UInt8 := [42, 180, 0, 7, 27, 50, 176]
abbrev dktJ44_get_0 : List UInt8 := dkwJ44_get_0 ++ []
theorem dksJ44_get_0 : cJ44_get.data.toList.drop 0 = dktJ44_get_0 := by decide +kernel
theorem dJ44_get_0 : decode cJ44_get 0 = .ok (.aload_n 0, 1) := dk_42 (dk_at dksJ44_get_0 0 rfl rfl)
theorem dJ44_get_1 : decode cJ44_get 1 = .ok (.getfield 7, 3) := dk_180 0 7 (dk_at dksJ44_get_0 1 rfl rfl)
theorem dJ44_get_4 : decode cJ44_get 4 = .ok (.iload_n 1, 1) := dk_27 (dk_at dksJ44_get_0 4 rfl rfl)
theorem dJ44_get_5 : decode cJ44_get 5 = .ok (.aaload, 1) := dk_50 (dk_at dksJ44_get_0 5 rfl rfl)
theorem dJ44_get_6 : decode cJ44_get 6 = .ok (.areturn, 1) := dk_176 (dk_at dksJ44_get_0 6 rfl rfl)
abbrev cJ44_size : ByteArray := prog_70_method_3_code
def yJ44_size : MethodName := ⟨RJ44, "size", "()I"⟩
def dkwJ44_size_0 : List UInt8 := [42, 180, 0, 7, 190, 172]
abbrev dktJ44_size_0 : List UInt8 := dkwJ44_size_0 ++ []
theorem dksJ44_size_0 : cJ44_size.data.toList.drop 0 = dktJ44_size_0 := by decide +kernel
theorem dJ44_size_0 : decode cJ44_size 0 = .ok (.aload_n 0, 1) := dk_42 (dk_at dksJ44_size_0 0 rfl rfl)
theorem dJ44_size_1 : decode cJ44_size 1 = .ok (.getfield 7, 3) := dk_180 0 7 (dk_at dksJ44_size_0 1 rfl rfl)
theorem dJ44_size_4 : decode cJ44_size 4 = .ok (.arraylength, 1) := dk_190 (dk_at dksJ44_size_0 4 rfl rfl)
theorem dJ44_size_5 : decode cJ44_size 5 = .ok (.ireturn, 1) := dk_172 (dk_at dksJ44_size_0 5 rfl rfl)
theorem q854 : (Jvm.Cond.selects "java/util/ImmutableCollections$ListN" ({ cls := "java/lang/Object", name := "getClass", desc := "()Ljava/lang/Class;" } : Jvm.MethodName) ({ cls := "java/lang/Object", name := "getClass", desc := "()Ljava/lang/Class;" } : Jvm.MethodName)) ∈ lw_all := lw_g (lw_at lw_m4 87 rfl) rfl
theorem q941 : (Jvm.Cond.castable "java/util/ImmutableCollections$ListN" "java/util/List") ∈ lw_tbl := lw_at lw_m4 174 rfl
theorem q942 : (Jvm.Cond.selects "java/util/ImmutableCollections$ListN" ({ cls := "java/util/List", name := "get", desc := "(I)Ljava/lang/Object;" } : Jvm.MethodName) ({ cls := "java/util/ImmutableCollections$ListN", name := "get", desc := "(I)Ljava/lang/Object;" } : Jvm.MethodName)) ∈ lw_all := lw_g (lw_at lw_m4 175 rfl) rfl
theorem q943 : (Jvm.Cond.unhidden "java/util/ImmutableCollections$ListN" "get" "(I)Ljava/lang/Object;") ∈ lw_tbl := lw_at lw_m4 176 rfl
theorem q944 : (Jvm.Cond.instanceMethod ({ cls := "java/util/ImmutableCollections$ListN", name := "get", desc := "(I)Ljava/lang/Object;" } : Jvm.MethodName)) ∈ lw_all := lw_g (lw_at lw_m4 177 rfl) rfl
theorem q945 : (Jvm.Cond.publicMethod ({ cls := "java/util/ImmutableCollections$ListN", name := "get", desc := "(I)Ljava/lang/Object;" } : Jvm.MethodName)) ∈ lw_tbl := lw_at lw_m4 178 rfl
theorem q946 : (Jvm.Cond.code ({ cls := "java/util/ImmutableCollections$ListN", name := "get", desc := "(I)Ljava/lang/Object;" } : Jvm.MethodName) prog_70_method_4_code (2 : Nat) (Option.some (Jvm.ClassFile.FieldType.object "java/lang/Object"))) ∈ lw_all := lw_g (lw_at lw_m4 179 rfl) rfl
theorem q1782 : (Jvm.Cond.selects "java/util/ImmutableCollections$ListN" ({ cls := "java/util/List", name := "size", desc := "()I" } : Jvm.MethodName) ({ cls := "java/util/ImmutableCollections$ListN", name := "size", desc := "()I" } : Jvm.MethodName)) ∈ lw_all := lw_g (lw_at lw_m8 55 rfl) rfl
theorem q1783 : (Jvm.Cond.unhidden "java/util/ImmutableCollections$ListN" "size" "()I") ∈ lw_tbl := lw_at lw_m8 56 rfl
theorem q1784 : (Jvm.Cond.instanceMethod ({ cls := "java/util/ImmutableCollections$ListN", name := "size", desc := "()I" } : Jvm.MethodName)) ∈ lw_all := lw_g (lw_at lw_m8 57 rfl) rfl
theorem q1785 : (Jvm.Cond.publicMethod ({ cls := "java/util/ImmutableCollections$ListN", name := "size", desc := "()I" } : Jvm.MethodName)) ∈ lw_tbl := lw_at lw_m8 58 rfl
theorem q1786 : (Jvm.Cond.code ({ cls := "java/util/ImmutableCollections$ListN", name := "size", desc := "()I" } : Jvm.MethodName) prog_70_method_3_code (1 : Nat) (Option.some Jvm.ClassFile.FieldType.int)) ∈ lw_all := lw_g (lw_at lw_m8 59 rfl) rfl
theorem q1805 : (Jvm.Cond.selects "java/util/ImmutableCollections$ListN" ({ cls := "java/util/List", name := "set", desc := "(ILjava/lang/Object;)Ljava/lang/Object;" } : Jvm.MethodName) ({ cls := "java/util/ImmutableCollections$AbstractImmutableList", name := "set", desc := "(ILjava/lang/Object;)Ljava/lang/Object;" } : Jvm.MethodName)) ∈ lw_all := lw_g (lw_at lw_m8 78 rfl) rfl
theorem q1806 : (Jvm.Cond.unhidden "java/util/ImmutableCollections$ListN" "set" "(ILjava/lang/Object;)Ljava/lang/Object;") ∈ lw_tbl := lw_at lw_m8 79 rfl
theorem q1825 : (Jvm.Cond.selects "java/util/ImmutableCollections$ListN" ({ cls := "java/util/List", name := "listIterator", desc := "()Ljava/util/ListIterator;" } : Jvm.MethodName) ({ cls := "java/util/ImmutableCollections$AbstractImmutableList", name := "listIterator", desc := "()Ljava/util/ListIterator;" } : Jvm.MethodName)) ∈ lw_all := lw_g (lw_at lw_m8 98 rfl) rfl
theorem q1826 : (Jvm.Cond.unhidden "java/util/ImmutableCollections$ListN" "listIterator" "()Ljava/util/ListIterator;") ∈ lw_tbl := lw_at lw_m8 99 rfl
theorem q1833 : (Jvm.Cond.selects "java/util/ImmutableCollections$ListN" ({ cls := "java/util/ImmutableCollections$AbstractImmutableList", name := "listIterator", desc := "(I)Ljava/util/ListIterator;" } : Jvm.MethodName) ({ cls := "java/util/ImmutableCollections$AbstractImmutableList", name := "listIterator", desc := "(I)Ljava/util/ListIterator;" } : Jvm.MethodName)) ∈ lw_all := lw_g (lw_at lw_m8 106 rfl) rfl
theorem q1837 : (Jvm.Cond.selects "java/util/ImmutableCollections$ListN" ({ cls := "java/util/ImmutableCollections$AbstractImmutableList", name := "size", desc := "()I" } : Jvm.MethodName) ({ cls := "java/util/ImmutableCollections$ListN", name := "size", desc := "()I" } : Jvm.MethodName)) ∈ lw_all := lw_g (lw_at lw_m8 110 rfl) rfl
theorem q1841 : (Jvm.Cond.selects "java/util/ImmutableCollections$ListN" ({ cls := "java/util/ImmutableCollections$AbstractImmutableList", name := "outOfBounds", desc := "(I)Ljava/lang/IndexOutOfBoundsException;" } : Jvm.MethodName) ({ cls := "java/util/ImmutableCollections$AbstractImmutableList", name := "outOfBounds", desc := "(I)Ljava/lang/IndexOutOfBoundsException;" } : Jvm.MethodName)) ∈ lw_all := lw_g (lw_at lw_m8 114 rfl) rfl
theorem q1881 : (Jvm.Cond.selects "java/util/ImmutableCollections$ListN" ({ cls := "java/util/List", name := "listIterator", desc := "(I)Ljava/util/ListIterator;" } : Jvm.MethodName) ({ cls := "java/util/ImmutableCollections$AbstractImmutableList", name := "listIterator", desc := "(I)Ljava/util/ListIterator;" } : Jvm.MethodName)) ∈ lw_all := lw_g (lw_at lw_m8 154 rfl) rfl
theorem q1882 : (Jvm.Cond.unhidden "java/util/ImmutableCollections$ListN" "listIterator" "(I)Ljava/util/ListIterator;") ∈ lw_tbl := lw_at lw_m8 155 rfl
theorem q1993 : (Jvm.Cond.selects "java/util/ImmutableCollections$ListN" ({ cls := "java/util/List", name := "iterator", desc := "()Ljava/util/Iterator;" } : Jvm.MethodName) ({ cls := "java/util/ImmutableCollections$AbstractImmutableList", name := "iterator", desc := "()Ljava/util/Iterator;" } : Jvm.MethodName)) ∈ lw_all := lw_g (lw_at lw_m9 26 rfl) rfl
theorem q1994 : (Jvm.Cond.unhidden "java/util/ImmutableCollections$ListN" "iterator" "()Ljava/util/Iterator;") ∈ lw_tbl := lw_at lw_m9 27 rfl
theorem q2556 : (Jvm.Cond.castable "java/util/ImmutableCollections$ListN" "java/util/RandomAccess") ∈ lw_tbl := lw_at lw_m11 109 rfl
theorem q2586 : (Jvm.Cond.castable "java/util/ImmutableCollections$ListN" "java/lang/Object") ∈ lw_tbl := lw_at lw_m11 139 rfl
theorem q2614 : (Jvm.Cond.fieldLink "java/util/ImmutableCollections$ListN" (7 : Nat) "java/util/ImmutableCollections$ListN" "elements" "[Ljava/lang/Object;") ∈ lw_all := lw_g (lw_at lw_m11 167 rfl) rfl

/-! java/util/ImmutableCollections$AbstractImmutableList -/
set_option maxRecDepth 100000
def RJ45 : String := "java/util/ImmutableCollections$AbstractImmutableList"
abbrev cJ45_set : ByteArray := prog_67_method_6_code
def yJ45_set : MethodName := ⟨RJ45, "set", "(ILjava/lang/Object;)Ljava/lang/Object;"⟩
theorem dJ45_set_0 : decode cJ45_set 0 = .ok (.invokestatic 7, 3) := by decide +kernel
theorem dJ45_set_3 : decode cJ45_set 3 = .ok (.athrow, 1) := by decide +kernel
abbrev cJ45_listIterator : ByteArray := prog_67_method_11_code
def yJ45_listIterator : MethodName := ⟨RJ45, "listIterator", "()Ljava/util/ListIterator;"⟩
def dkwJ45_listIterator_0 : List UInt8 := [42, 3, 182, 0, 66, 176]
abbrev dktJ45_listIterator_0 : List UInt8 := dkwJ45_listIterator_0 ++ []
theorem dksJ45_listIterator_0 : cJ45_listIterator.data.toList.drop 0 = dktJ45_listIterator_0 := by decide +kernel
theorem dJ45_listIterator_0 : decode cJ45_listIterator 0 = .ok (.aload_n 0, 1) := dk_42 (dk_at dksJ45_listIterator_0 0 rfl rfl)
theorem dJ45_listIterator_1 : decode cJ45_listIterator 1 = .ok (.iconst 0, 1) := dk_3 (dk_at dksJ45_listIterator_0 1 rfl rfl)
theorem dJ45_listIterator_2 : decode cJ45_listIterator 2 = .ok (.invokevirtual 66, 3) := dk_182 0 66 (dk_at dksJ45_listIterator_0 2 rfl rfl)
theorem dJ45_listIterator_5 : decode cJ45_listIterator 5 = .ok (.areturn, 1) := dk_176 (dk_at dksJ45_listIterator_0 5 rfl rfl)
abbrev cJ45_listIterator_2 : ByteArray := prog_67_method_12_code
def yJ45_listIterator_2 : MethodName := ⟨RJ45, "listIterator", "(I)Ljava/util/ListIterator;"⟩
def dkwJ45_listIterator_2_1 : List UInt8 := [42, 28, 27, 183, 0, 74, 176]
abbrev dktJ45_listIterator_2_1 : List UInt8 := dkwJ45_listIterator_2_1 ++ []
def dkwJ45_listIterator_2_0 : List UInt8 := [42, 182, 0, 13, 61, 27, 155, 0, 8, 27, 28, 164, 0, 9, 42, 27, 182, 0, 70, 191, 187, 0, 61, 89]
abbrev dktJ45_listIterator_2_0 : List UInt8 := dkwJ45_listIterator_2_0 ++ dktJ45_listIterator_2_1
theorem dksJ45_listIterator_2_0 : cJ45_listIterator_2.data.toList.drop 0 = dktJ45_listIterator_2_0 := by decide +kernel
theorem dksJ45_listIterator_2_1 : cJ45_listIterator_2.data.toList.drop 24 = dktJ45_listIterator_2_1 := dk_seg dksJ45_listIterator_2_0 24 rfl rfl
theorem dJ45_listIterator_2_0 : decode cJ45_listIterator_2 0 = .ok (.aload_n 0, 1) := dk_42 (dk_at dksJ45_listIterator_2_0 0 rfl rfl)
theorem dJ45_listIterator_2_1 : decode cJ45_listIterator_2 1 = .ok (.invokevirtual 13, 3) := dk_182 0 13 (dk_at dksJ45_listIterator_2_0 1 rfl rfl)
theorem dJ45_listIterator_2_4 : decode cJ45_listIterator_2 4 = .ok (.istore_n 2, 1) := dk_61 (dk_at dksJ45_listIterator_2_0 4 rfl rfl)
theorem dJ45_listIterator_2_5 : decode cJ45_listIterator_2 5 = .ok (.iload_n 1, 1) := dk_27 (dk_at dksJ45_listIterator_2_0 5 rfl rfl)
theorem dJ45_listIterator_2_6 : decode cJ45_listIterator_2 6 = .ok (.ifCond .lt 8, 3) := dk_155 0 8 (dk_at dksJ45_listIterator_2_0 6 rfl rfl)
theorem dJ45_listIterator_2_9 : decode cJ45_listIterator_2 9 = .ok (.iload_n 1, 1) := dk_27 (dk_at dksJ45_listIterator_2_0 9 rfl rfl)
theorem dJ45_listIterator_2_10 : decode cJ45_listIterator_2 10 = .ok (.iload_n 2, 1) := dk_28 (dk_at dksJ45_listIterator_2_0 10 rfl rfl)
theorem dJ45_listIterator_2_11 : decode cJ45_listIterator_2 11 = .ok (.if_icmp .le 9, 3) := dk_164 0 9 (dk_at dksJ45_listIterator_2_0 11 rfl rfl)
theorem dJ45_listIterator_2_14 : decode cJ45_listIterator_2 14 = .ok (.aload_n 0, 1) := dk_42 (dk_at dksJ45_listIterator_2_0 14 rfl rfl)
theorem dJ45_listIterator_2_15 : decode cJ45_listIterator_2 15 = .ok (.iload_n 1, 1) := dk_27 (dk_at dksJ45_listIterator_2_0 15 rfl rfl)
theorem dJ45_listIterator_2_16 : decode cJ45_listIterator_2 16 = .ok (.invokevirtual 70, 3) := dk_182 0 70 (dk_at dksJ45_listIterator_2_0 16 rfl rfl)
theorem dJ45_listIterator_2_19 : decode cJ45_listIterator_2 19 = .ok (.athrow, 1) := dk_191 (dk_at dksJ45_listIterator_2_0 19 rfl rfl)
theorem dJ45_listIterator_2_20 : decode cJ45_listIterator_2 20 = .ok (.new 61, 3) := dk_187 0 61 (dk_at dksJ45_listIterator_2_0 20 rfl rfl)
theorem dJ45_listIterator_2_23 : decode cJ45_listIterator_2 23 = .ok (.dup, 1) := dk_89 (dk_at dksJ45_listIterator_2_0 23 rfl rfl)
theorem dJ45_listIterator_2_24 : decode cJ45_listIterator_2 24 = .ok (.aload_n 0, 1) := dk_42 (dk_at dksJ45_listIterator_2_1 0 rfl rfl)
theorem dJ45_listIterator_2_25 : decode cJ45_listIterator_2 25 = .ok (.iload_n 2, 1) := dk_28 (dk_at dksJ45_listIterator_2_1 1 rfl rfl)
theorem dJ45_listIterator_2_26 : decode cJ45_listIterator_2 26 = .ok (.iload_n 1, 1) := dk_27 (dk_at dksJ45_listIterator_2_1 2 rfl rfl)
theorem dJ45_listIterator_2_27 : decode cJ45_listIterator_2 27 = .ok (.invokespecial 74, 3) := dk_183 0 74 (dk_at dksJ45_listIterator_2_1 3 rfl rfl)
theorem dJ45_listIterator_2_30 : decode cJ45_listIterator_2 30 = .ok (.areturn, 1) := dk_176 (dk_at dksJ45_listIterator_2_1 6 rfl rfl)
abbrev cJ45_outOfBounds : ByteArray := prog_67_method_17_code
def yJ45_outOfBounds : MethodName := ⟨RJ45, "outOfBounds", "(I)Ljava/lang/IndexOutOfBoundsException;"⟩
def dkwJ45_outOfBounds_1 : List UInt8 := [182, 0, 36, 42, 182, 0, 13, 182, 0, 40, 182, 0, 43, 183, 0, 47, 176]
abbrev dktJ45_outOfBounds_1 : List UInt8 := dkwJ45_outOfBounds_1 ++ []
def dkwJ45_outOfBounds_0 : List UInt8 := [187, 0, 29, 89, 187, 0, 31, 89, 183, 0, 33, 18, 116, 182, 0, 36, 27, 182, 0, 40, 18, 118]
abbrev dktJ45_outOfBounds_0 : List UInt8 := dkwJ45_outOfBounds_0 ++ dktJ45_outOfBounds_1
theorem dksJ45_outOfBounds_0 : cJ45_outOfBounds.data.toList.drop 0 = dktJ45_outOfBounds_0 := by decide +kernel
theorem dksJ45_outOfBounds_1 : cJ45_outOfBounds.data.toList.drop 22 = dktJ45_outOfBounds_1 := dk_seg dksJ45_outOfBounds_0 22 rfl rfl
theorem dJ45_outOfBounds_0 : decode cJ45_outOfBounds 0 = .ok (.new 29, 3) := dk_187 0 29 (dk_at dksJ45_outOfBounds_0 0 rfl rfl)
theorem dJ45_outOfBounds_3 : decode cJ45_outOfBounds 3 = .ok (.dup, 1) := dk_89 (dk_at dksJ45_outOfBounds_0 3 rfl rfl)
theorem dJ45_outOfBounds_4 : decode cJ45_outOfBounds 4 = .ok (.new 31, 3) := dk_187 0 31 (dk_at dksJ45_outOfBounds_0 4 rfl rfl)
theorem dJ45_outOfBounds_7 : decode cJ45_outOfBounds 7 = .ok (.dup, 1) := dk_89 (dk_at dksJ45_outOfBounds_0 7 rfl rfl)
theorem dJ45_outOfBounds_8 : decode cJ45_outOfBounds 8 = .ok (.invokespecial 33, 3) := dk_183 0 33 (dk_at dksJ45_outOfBounds_0 8 rfl rfl)
theorem dJ45_outOfBounds_11 : decode cJ45_outOfBounds 11 = .ok (.ldc 116, 2) := dk_18 116 (dk_at dksJ45_outOfBounds_0 11 rfl rfl)
theorem dJ45_outOfBounds_13 : decode cJ45_outOfBounds 13 = .ok (.invokevirtual 36, 3) := dk_182 0 36 (dk_at dksJ45_outOfBounds_0 13 rfl rfl)
theorem dJ45_outOfBounds_16 : decode cJ45_outOfBounds 16 = .ok (.iload_n 1, 1) := dk_27 (dk_at dksJ45_outOfBounds_0 16 rfl rfl)
theorem dJ45_outOfBounds_17 : decode cJ45_outOfBounds 17 = .ok (.invokevirtual 40, 3) := dk_182 0 40 (dk_at dksJ45_outOfBounds_0 17 rfl rfl)
theorem dJ45_outOfBounds_20 : decode cJ45_outOfBounds 20 = .ok (.ldc 118, 2) := dk_18 118 (dk_at dksJ45_outOfBounds_0 20 rfl rfl)
theorem dJ45_outOfBounds_22 : decode cJ45_outOfBounds 22 = .ok (.invokevirtual 36, 3) := dk_182 0 36 (dk_at dksJ45_outOfBounds_1 0 rfl rfl)
theorem dJ45_outOfBounds_25 : decode cJ45_outOfBounds 25 = .ok (.aload_n 0, 1) := dk_42 (dk_at dksJ45_outOfBounds_1 3 rfl rfl)
theorem dJ45_outOfBounds_26 : decode cJ45_outOfBounds 26 = .ok (.invokevirtual 13, 3) := dk_182 0 13 (dk_at dksJ45_outOfBounds_1 4 rfl rfl)
theorem dJ45_outOfBounds_29 : decode cJ45_outOfBounds 29 = .ok (.invokevirtual 40, 3) := dk_182 0 40 (dk_at dksJ45_outOfBounds_1 7 rfl rfl)
theorem dJ45_outOfBounds_32 : decode cJ45_outOfBounds 32 = .ok (.invokevirtual 43, 3) := dk_182 0 43 (dk_at dksJ45_outOfBounds_1 10 rfl rfl)
theorem dJ45_outOfBounds_35 : decode cJ45_outOfBounds 35 = .ok (.invokespecial 47, 3) := dk_183 0 47 (dk_at dksJ45_outOfBounds_1 13 rfl rfl)
theorem dJ45_outOfBounds_38 : decode cJ45_outOfBounds 38 = .ok (.areturn, 1) := dk_176 (dk_at dksJ45_outOfBounds_1 16 rfl rfl)
abbrev cJ45_iterator : ByteArray := prog_67_method_10_code
def yJ45_iterator : MethodName := ⟨RJ45, "iterator", "()Ljava/util/Iterator;"⟩
def dkwJ45_iterator_0 : List UInt8 := [187, 0, 61, 89, 42, 42, 182, 0, 13, 183, 0, 63, 176]
abbrev dktJ45_iterator_0 : List UInt8 := dkwJ45_iterator_0 ++ []
theorem dksJ45_iterator_0 : cJ45_iterator.data.toList.drop 0 = dktJ45_iterator_0 := by decide +kernel
theorem dJ45_iterator_0 : decode cJ45_iterator 0 = .ok (.new 61, 3) := dk_187 0 61 (dk_at dksJ45_iterator_0 0 rfl rfl)
theorem dJ45_iterator_3 : decode cJ45_iterator 3 = .ok (.dup, 1) := dk_89 (dk_at dksJ45_iterator_0 3 rfl rfl)
theorem dJ45_iterator_4 : decode cJ45_iterator 4 = .ok (.aload_n 0, 1) := dk_42 (dk_at dksJ45_iterator_0 4 rfl rfl)
theorem dJ45_iterator_5 : decode cJ45_iterator 5 = .ok (.aload_n 0, 1) := dk_42 (dk_at dksJ45_iterator_0 5 rfl rfl)
theorem dJ45_iterator_6 : decode cJ45_iterator 6 = .ok (.invokevirtual 13, 3) := dk_182 0 13 (dk_at dksJ45_iterator_0 6 rfl rfl)
theorem dJ45_iterator_9 : decode cJ45_iterator 9 = .ok (.invokespecial 63, 3) := dk_183 0 63 (dk_at dksJ45_iterator_0 9 rfl rfl)
theorem dJ45_iterator_12 : decode cJ45_iterator 12 = .ok (.areturn, 1) := dk_176 (dk_at dksJ45_iterator_0 12 rfl rfl)
theorem q1807 : (Jvm.Cond.instanceMethod ({ cls := "java/util/ImmutableCollections$AbstractImmutableList", name := "set", desc := "(ILjava/lang/Object;)Ljava/lang/Object;" } : Jvm.MethodName)) ∈ lw_all := lw_g (lw_at lw_m8 80 rfl) rfl
theorem q1808 : (Jvm.Cond.publicMethod ({ cls := "java/util/ImmutableCollections$AbstractImmutableList", name := "set", desc := "(ILjava/lang/Object;)Ljava/lang/Object;" } : Jvm.MethodName)) ∈ lw_tbl := lw_at lw_m8 81 rfl
theorem q1809 : (Jvm.Cond.code ({ cls := "java/util/ImmutableCollections$AbstractImmutableList", name := "set", desc := "(ILjava/lang/Object;)Ljava/lang/Object;" } : Jvm.MethodName) prog_67_method_6_code (3 : Nat) (Option.some (Jvm.ClassFile.FieldType.object "java/lang/Object"))) ∈ lw_all := lw_g (lw_at lw_m8 82 rfl) rfl
theorem q1810 : (Jvm.Cond.methodLink "java/util/ImmutableCollections$AbstractImmutableList" (7 : Nat) ({ cls := "java/util/ImmutableCollections", name := "uoe", desc := "()Ljava/lang/UnsupportedOperationException;" } : Jvm.MethodName)) ∈ lw_all := lw_g (lw_at lw_m8 83 rfl) rfl
theorem q1827 : (Jvm.Cond.instanceMethod ({ cls := "java/util/ImmutableCollections$AbstractImmutableList", name := "listIterator", desc := "()Ljava/util/ListIterator;" } : Jvm.MethodName)) ∈ lw_all := lw_g (lw_at lw_m8 100 rfl) rfl
theorem q1828 : (Jvm.Cond.publicMethod ({ cls := "java/util/ImmutableCollections$AbstractImmutableList", name := "listIterator", desc := "()Ljava/util/ListIterator;" } : Jvm.MethodName)) ∈ lw_tbl := lw_at lw_m8 101 rfl
theorem q1829 : (Jvm.Cond.code ({ cls := "java/util/ImmutableCollections$AbstractImmutableList", name := "listIterator", desc := "()Ljava/util/ListIterator;" } : Jvm.MethodName) prog_67_method_11_code (1 : Nat) (Option.some (Jvm.ClassFile.FieldType.object "java/util/ListIterator"))) ∈ lw_all := lw_g (lw_at lw_m8 102 rfl) rfl
theorem q1830 : (Jvm.Cond.methodLink "java/util/ImmutableCollections$AbstractImmutableList" (66 : Nat) ({ cls := "java/util/ImmutableCollections$AbstractImmutableList", name := "listIterator", desc := "(I)Ljava/util/ListIterator;" } : Jvm.MethodName)) ∈ lw_all := lw_g (lw_at lw_m8 103 rfl) rfl
theorem q1831 : (Jvm.Cond.instanceMethod ({ cls := "java/util/ImmutableCollections$AbstractImmutableList", name := "listIterator", desc := "(I)Ljava/util/ListIterator;" } : Jvm.MethodName)) ∈ lw_all := lw_g (lw_at lw_m8 104 rfl) rfl
theorem q1832 : (Jvm.Cond.sameMethod "java/util/ImmutableCollections$AbstractImmutableList" "java/util/ImmutableCollections$AbstractImmutableList" "listIterator" "(I)Ljava/util/ListIterator;") ∈ lw_all := lw_g (lw_at lw_m8 105 rfl) rfl
theorem q1834 : (Jvm.Cond.code ({ cls := "java/util/ImmutableCollections$AbstractImmutableList", name := "listIterator", desc := "(I)Ljava/util/ListIterator;" } : Jvm.MethodName) prog_67_method_12_code (3 : Nat) (Option.some (Jvm.ClassFile.FieldType.object "java/util/ListIterator"))) ∈ lw_all := lw_g (lw_at lw_m8 107 rfl) rfl
theorem q1835 : (Jvm.Cond.methodLink "java/util/ImmutableCollections$AbstractImmutableList" (13 : Nat) ({ cls := "java/util/ImmutableCollections$AbstractImmutableList", name := "size", desc := "()I" } : Jvm.MethodName)) ∈ lw_all := lw_g (lw_at lw_m8 108 rfl) rfl
theorem q1836 : (Jvm.Cond.sameMethod "java/util/ImmutableCollections$AbstractImmutableList" "java/util/AbstractCollection" "size" "()I") ∈ lw_all := lw_g (lw_at lw_m8 109 rfl) rfl
theorem q1838 : (Jvm.Cond.methodLink "java/util/ImmutableCollections$AbstractImmutableList" (70 : Nat) ({ cls := "java/util/ImmutableCollections$AbstractImmutableList", name := "outOfBounds", desc := "(I)Ljava/lang/IndexOutOfBoundsException;" } : Jvm.MethodName)) ∈ lw_all := lw_g (lw_at lw_m8 111 rfl) rfl
theorem q1839 : (Jvm.Cond.instanceMethod ({ cls := "java/util/ImmutableCollections$AbstractImmutableList", name := "outOfBounds", desc := "(I)Ljava/lang/IndexOutOfBoundsException;" } : Jvm.MethodName)) ∈ lw_all := lw_g (lw_at lw_m8 112 rfl) rfl
theorem q1840 : (Jvm.Cond.sameMethod "java/util/ImmutableCollections$AbstractImmutableList" "java/util/ImmutableCollections$AbstractImmutableList" "outOfBounds" "(I)Ljava/lang/IndexOutOfBoundsException;") ∈ lw_all := lw_g (lw_at lw_m8 113 rfl) rfl
theorem q1842 : (Jvm.Cond.code ({ cls := "java/util/ImmutableCollections$AbstractImmutableList", name := "outOfBounds", desc := "(I)Ljava/lang/IndexOutOfBoundsException;" } : Jvm.MethodName) prog_67_method_17_code (2 : Nat) (Option.some (Jvm.ClassFile.FieldType.object "java/lang/IndexOutOfBoundsException"))) ∈ lw_all := lw_g (lw_at lw_m8 115 rfl) rfl
theorem q1843 : (Jvm.Cond.classLink "java/util/ImmutableCollections$AbstractImmutableList" (29 : Nat) "java/lang/IndexOutOfBoundsException") ∈ lw_all := lw_g (lw_at lw_m8 116 rfl) rfl
theorem q1844 : (Jvm.Cond.classLink "java/util/ImmutableCollections$AbstractImmutableList" (31 : Nat) "java/lang/StringBuilder") ∈ lw_all := lw_g (lw_at lw_m8 117 rfl) rfl
theorem q1845 : (Jvm.Cond.methodLink "java/util/ImmutableCollections$AbstractImmutableList" (33 : Nat) ({ cls := "java/lang/StringBuilder", name := "<init>", desc := "()V" } : Jvm.MethodName)) ∈ lw_all := lw_g (lw_at lw_m8 118 rfl) rfl
theorem q1846 : (Jvm.Cond.stringRef "java/util/ImmutableCollections$AbstractImmutableList" (116 : Nat) "Index: ") ∈ lw_tbl := lw_at lw_m8 119 rfl
theorem q1847 : (Jvm.Cond.methodLink "java/util/ImmutableCollections$AbstractImmutableList" (36 : Nat) ({ cls := "java/lang/StringBuilder", name := "append", desc := "(Ljava/lang/String;)Ljava/lang/StringBuilder;" } : Jvm.MethodName)) ∈ lw_all := lw_g (lw_at lw_m8 120 rfl) rfl
theorem q1848 : (Jvm.Cond.methodLink "java/util/ImmutableCollections$AbstractImmutableList" (40 : Nat) ({ cls := "java/lang/StringBuilder", name := "append", desc := "(I)Ljava/lang/StringBuilder;" } : Jvm.MethodName)) ∈ lw_all := lw_g (lw_at lw_m8 121 rfl) rfl
theorem q1849 : (Jvm.Cond.stringRef "java/util/ImmutableCollections$AbstractImmutableList" (118 : Nat) " Size: ") ∈ lw_tbl := lw_at lw_m8 122 rfl
theorem q1850 : (Jvm.Cond.methodLink "java/util/ImmutableCollections$AbstractImmutableList" (43 : Nat) ({ cls := "java/lang/StringBuilder", name := "toString", desc := "()Ljava/lang/String;" } : Jvm.MethodName)) ∈ lw_all := lw_g (lw_at lw_m8 123 rfl) rfl
theorem q1851 : (Jvm.Cond.methodLink "java/util/ImmutableCollections$AbstractImmutableList" (47 : Nat) ({ cls := "java/lang/IndexOutOfBoundsException", name := "<init>", desc := "(Ljava/lang/String;)V" } : Jvm.MethodName)) ∈ lw_all := lw_g (lw_at lw_m8 124 rfl) rfl
theorem q1852 : (Jvm.Cond.classLink "java/util/ImmutableCollections$AbstractImmutableList" (61 : Nat) "java/util/ImmutableCollections$ListItr") ∈ lw_all := lw_g (lw_at lw_m8 125 rfl) rfl
theorem q1854 : (Jvm.Cond.methodLink "java/util/ImmutableCollections$AbstractImmutableList" (74 : Nat) ({ cls := "java/util/ImmutableCollections$ListItr", name := "<init>", desc := "(Ljava/util/List;II)V" } : Jvm.MethodName)) ∈ lw_all := lw_g (lw_at lw_m8 127 rfl) rfl
theorem q1883 : (Jvm.Cond.publicMethod ({ cls := "java/util/ImmutableCollections$AbstractImmutableList", name := "listIterator", desc := "(I)Ljava/util/ListIterator;" } : Jvm.MethodName)) ∈ lw_tbl := lw_at lw_m8 156 rfl
theorem q1995 : (Jvm.Cond.instanceMethod ({ cls := "java/util/ImmutableCollections$AbstractImmutableList", name := "iterator", desc := "()Ljava/util/Iterator;" } : Jvm.MethodName)) ∈ lw_all := lw_g (lw_at lw_m9 28 rfl) rfl
theorem q1996 : (Jvm.Cond.publicMethod ({ cls := "java/util/ImmutableCollections$AbstractImmutableList", name := "iterator", desc := "()Ljava/util/Iterator;" } : Jvm.MethodName)) ∈ lw_tbl := lw_at lw_m9 29 rfl
theorem q1997 : (Jvm.Cond.code ({ cls := "java/util/ImmutableCollections$AbstractImmutableList", name := "iterator", desc := "()Ljava/util/Iterator;" } : Jvm.MethodName) prog_67_method_10_code (1 : Nat) (Option.some (Jvm.ClassFile.FieldType.object "java/util/Iterator"))) ∈ lw_all := lw_g (lw_at lw_m9 30 rfl) rfl
theorem q1998 : (Jvm.Cond.methodLink "java/util/ImmutableCollections$AbstractImmutableList" (63 : Nat) ({ cls := "java/util/ImmutableCollections$ListItr", name := "<init>", desc := "(Ljava/util/List;I)V" } : Jvm.MethodName)) ∈ lw_all := lw_g (lw_at lw_m9 31 rfl) rfl

theorem q83 : (Jvm.Cond.initialized "Deed") ∈ lw_all := lw_g (lw_at lw_m1 36 rfl) rfl
set_option maxRecDepth 100000
theorem q821 : (Jvm.Cond.selects "Deed" ({ cls := "java/lang/Object", name := "getClass", desc := "()Ljava/lang/Class;" } : Jvm.MethodName) ({ cls := "java/lang/Object", name := "getClass", desc := "()Ljava/lang/Class;" } : Jvm.MethodName)) ∈ lw_all := lw_g (lw_at lw_m4 54 rfl) rfl
theorem q1268 : (Jvm.Cond.laysStatic "Deed" "DREDGE" "LDeed;") ∈ lw_tbl := lw_at lw_m6 21 rfl
theorem q1692 : (Jvm.Cond.laysStatic "Deed" "DUMP" "LDeed;") ∈ lw_tbl := lw_at lw_m7 205 rfl
theorem q1731 : (Jvm.Cond.laysStatic "Deed" "SURVEY" "LDeed;") ∈ lw_tbl := lw_at lw_m8 4 rfl
theorem q2028 : (Jvm.Cond.laysStatic "Deed" "SETTLE" "LDeed;") ∈ lw_tbl := lw_at lw_m9 61 rfl
theorem q2079 : (Jvm.Cond.laysStatic "Deed" "DISPUTE" "LDeed;") ∈ lw_tbl := lw_at lw_m9 112 rfl
theorem q2109 : (Jvm.Cond.laysStatic "Deed" "RESOLVE" "LDeed;") ∈ lw_tbl := lw_at lw_m9 142 rfl
theorem q2557 : (Jvm.Cond.castable "Deed" "java/lang/Object") ∈ lw_tbl := lw_at lw_m11 110 rfl

theorem q103 : (Jvm.Cond.initialized "Dredgeledger$Side") ∈ lw_all := lw_g (lw_at lw_m1 56 rfl) rfl
set_option maxRecDepth 100000
theorem q985 : (Jvm.Cond.declares ({ cls := "Dredgeledger$Side", name := "bars", desc := "()Z" } : Jvm.MethodName)) ∈ lw_tbl := lw_at lw_m4 218 rfl
theorem q986 : (Jvm.Cond.sameMethod "Dredgeledger$Side" "Dredgeledger$Side" "bars" "()Z") ∈ lw_all := lw_g (lw_at lw_m4 219 rfl) rfl
theorem q2066 : (Jvm.Cond.laysStatic "Dredgeledger$Side" "BEGIN" "LDredgeledger$Side;") ∈ lw_tbl := lw_at lw_m9 99 rfl
theorem q2107 : (Jvm.Cond.laysStatic "Dredgeledger$Side" "END" "LDredgeledger$Side;") ∈ lw_tbl := lw_at lw_m9 140 rfl
theorem q2599 : (Jvm.Cond.castable "Dredgeledger$Side" "java/lang/Object") ∈ lw_tbl := lw_at lw_m11 152 rfl

theorem q270 : (Jvm.Cond.sameMethod "[B" "java/lang/Object" "clone" "()Ljava/lang/Object;") ∈ lw_all := lw_g (lw_at lw_m1 223 rfl) rfl
set_option maxRecDepth 100000
theorem q273 : (Jvm.Cond.selects "[B" ({ cls := "[B", name := "clone", desc := "()Ljava/lang/Object;" } : Jvm.MethodName) ({ cls := "java/lang/Object", name := "clone", desc := "()Ljava/lang/Object;" } : Jvm.MethodName)) ∈ lw_all := lw_g (lw_at lw_m1 226 rfl) rfl
theorem q274 : (Jvm.Cond.castable "[B" "java/lang/Cloneable") ∈ lw_tbl := lw_at lw_m1 227 rfl
theorem q2603 : (Jvm.Cond.castable "[B" "java/lang/Object") ∈ lw_tbl := lw_at lw_m11 156 rfl

theorem q2604 : (Jvm.Cond.castable "[I" "java/lang/Object") ∈ lw_tbl := lw_at lw_m11 157 rfl
set_option maxRecDepth 100000

theorem q2060 : (Jvm.Cond.sameMethod "[J" "java/lang/Object" "clone" "()Ljava/lang/Object;") ∈ lw_all := lw_g (lw_at lw_m9 93 rfl) rfl
set_option maxRecDepth 100000
theorem q2061 : (Jvm.Cond.selects "[J" ({ cls := "[J", name := "clone", desc := "()Ljava/lang/Object;" } : Jvm.MethodName) ({ cls := "java/lang/Object", name := "clone", desc := "()Ljava/lang/Object;" } : Jvm.MethodName)) ∈ lw_all := lw_g (lw_at lw_m9 94 rfl) rfl
theorem q2062 : (Jvm.Cond.castable "[J" "java/lang/Cloneable") ∈ lw_tbl := lw_at lw_m9 95 rfl
theorem q2601 : (Jvm.Cond.castable "[J" "java/lang/Object") ∈ lw_tbl := lw_at lw_m11 154 rfl

theorem q2605 : (Jvm.Cond.castable "[LDeed;" "java/lang/Object") ∈ lw_tbl := lw_at lw_m11 158 rfl
set_option maxRecDepth 100000

theorem q2596 : (Jvm.Cond.sameMethod "[Ljava/lang/Object;" "java/lang/Object" "getClass" "()Ljava/lang/Class;") ∈ lw_all := lw_g (lw_at lw_m11 149 rfl) rfl
set_option maxRecDepth 100000
theorem q2597 : (Jvm.Cond.selects "[Ljava/lang/Object;" ({ cls := "java/lang/Object", name := "getClass", desc := "()Ljava/lang/Class;" } : Jvm.MethodName) ({ cls := "java/lang/Object", name := "getClass", desc := "()Ljava/lang/Class;" } : Jvm.MethodName)) ∈ lw_all := lw_g (lw_at lw_m11 150 rfl) rfl
theorem q2602 : (Jvm.Cond.castable "[Ljava/lang/Object;" "java/lang/Object") ∈ lw_tbl := lw_at lw_m11 155 rfl

theorem q2600 : (Jvm.Cond.castable "[S" "java/lang/Object") ∈ lw_tbl := lw_at lw_m11 153 rfl
set_option maxRecDepth 100000

theorem q2606 : (Jvm.Cond.castable "[Z" "java/lang/Object") ∈ lw_tbl := lw_at lw_m11 159 rfl
set_option maxRecDepth 100000

theorem q82 : (Jvm.Cond.initialized "java/lang/Enum") ∈ lw_all := lw_g (lw_at lw_m1 35 rfl) rfl
set_option maxRecDepth 100000

theorem q67 : (Jvm.Cond.initialized "java/lang/Number") ∈ lw_all := lw_g (lw_at lw_m1 20 rfl) rfl
set_option maxRecDepth 100000

theorem q64 : (Jvm.Cond.initialized "java/lang/System") ∈ lw_all := lw_g (lw_at lw_m1 17 rfl) rfl
set_option maxRecDepth 100000
theorem q280 : (Jvm.Cond.static ({ cls := "java/lang/System", name := "arraycopy", desc := "(Ljava/lang/Object;ILjava/lang/Object;II)V" } : Jvm.MethodName)) ∈ lw_all := lw_g (lw_at lw_m1 233 rfl) rfl
theorem q281 : (Jvm.Cond.native ({ cls := "java/lang/System", name := "arraycopy", desc := "(Ljava/lang/Object;ILjava/lang/Object;II)V" } : Jvm.MethodName)) ∈ lw_all := lw_g (lw_at lw_m1 234 rfl) rfl

theorem q1889 : (Jvm.Cond.interfaceMethod "java/util/ListIterator" "java/util/ListIterator" "next" "()Ljava/lang/Object;") ∈ lw_tbl := lw_at lw_m8 162 rfl
set_option maxRecDepth 100000
theorem q1890 : (Jvm.Cond.declares ({ cls := "java/util/ListIterator", name := "next", desc := "()Ljava/lang/Object;" } : Jvm.MethodName)) ∈ lw_tbl := lw_at lw_m8 163 rfl
theorem q1901 : (Jvm.Cond.interfaceMethod "java/util/ListIterator" "java/util/ListIterator" "previous" "()Ljava/lang/Object;") ∈ lw_tbl := lw_at lw_m8 174 rfl
theorem q1902 : (Jvm.Cond.declares ({ cls := "java/util/ListIterator", name := "previous", desc := "()Ljava/lang/Object;" } : Jvm.MethodName)) ∈ lw_tbl := lw_at lw_m8 175 rfl
theorem q1942 : (Jvm.Cond.interfaceMethod "java/util/ListIterator" "java/util/ListIterator" "set" "(Ljava/lang/Object;)V") ∈ lw_tbl := lw_at lw_m8 215 rfl
theorem q1943 : (Jvm.Cond.declares ({ cls := "java/util/ListIterator", name := "set", desc := "(Ljava/lang/Object;)V" } : Jvm.MethodName)) ∈ lw_tbl := lw_at lw_m8 216 rfl

theorem q139 : (Jvm.Cond.arrayClass Jvm.ClassFile.FieldType.short) ∈ lw_all := lw_g (lw_at lw_m1 92 rfl) rfl
set_option maxRecDepth 100000
theorem q140 : (Jvm.Cond.arrayClass Jvm.ClassFile.FieldType.long) ∈ lw_all := lw_g (lw_at lw_m1 93 rfl) rfl
theorem q154 : (Jvm.Cond.arrayOver (Jvm.ClassFile.FieldType.object "java/lang/Object")) ∈ lw_tbl := lw_at lw_m1 107 rfl
theorem q234 : (Jvm.Cond.arrayClass Jvm.ClassFile.FieldType.byte) ∈ lw_all := lw_g (lw_at lw_m1 187 rfl) rfl
theorem q1412 : (Jvm.Cond.arrayClass Jvm.ClassFile.FieldType.int) ∈ lw_all := lw_g (lw_at lw_m6 165 rfl) rfl
theorem q2195 : (Jvm.Cond.arrayOver (Jvm.ClassFile.FieldType.object "Deed")) ∈ lw_tbl := lw_at lw_m9 228 rfl
theorem q2302 : (Jvm.Cond.arrayClass Jvm.ClassFile.FieldType.boolean) ∈ lw_all := lw_g (lw_at lw_m10 95 rfl) rfl
