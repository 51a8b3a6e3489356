/-! ApartBench$Reader -/
set_option maxRecDepth 100000
def RX9 : String := "ApartBench$Reader"
def TX9 : u_T := fun k => match k with
  | 0 => ("ApartBench$Reader", "text", "[B", true)
  | 1 => ("ApartBench$Reader", "size", "I", true)
  | 2 => ("ApartBench$Reader", "next", "I", false)
  | 3 => ("ApartBench$Reader", "place", "I", false)
  | 4 => ("ApartBench$Reader", "value", "I", false)
  | 5 => ("ApartBench$Reader", "isLong", "Z", false)
  | 6 => ("ApartBench$Reader", "sort", "LApartBench$Sort;", false)
  | 7 => ("ApartBench$Reader", "word", "Ljava/lang/String;", false)
  | _ => ("ApartBench$Reader", "has", "[Z", true)
def tyX9 : Nat → FieldType := fun k => match k with
  | 0 => .array .byte
  | 1 => .int
  | 2 => .int
  | 3 => .int
  | 4 => .int
  | 5 => .boolean
  | 6 => .object "ApartBench$Sort"
  | 7 => .object "java/lang/String"
  | _ => .array .boolean
abbrev wsX90 : List Cond := u_ws RX9 TX9 9
theorem nmX9 : ∀ a, a < 9 → ∀ b, b < 9 → a ≠ b → (TX9 a).2.1 ≠ (TX9 b).2.1 := by decide +kernel
theorem tyX9_ok : ∀ k, k < 9 → parseFieldDescriptor (TX9 k).2.2.1 = some (tyX9 k) := by decide +kernel
abbrev cX9_init : ByteArray := prog_10_method_1_code
def yX9_init : MethodName := ⟨RX9, "<init>", "([BI)V"⟩
def dkwX9_init_1 : List UInt8 := [181, 0, 25, 42, 182, 0, 29, 177]
abbrev dktX9_init_1 : List UInt8 := dkwX9_init_1 ++ []
def dkwX9_init_0 : List UInt8 := [42, 183, 0, 3, 42, 18, 9, 181, 0, 11, 42, 5, 188, 4, 181, 0, 17, 42, 43, 181, 0, 21, 42, 28]
abbrev dktX9_init_0 : List UInt8 := dkwX9_init_0 ++ dktX9_init_1
theorem dksX9_init_0 : cX9_init.data.toList.drop 0 = dktX9_init_0 := by decide +kernel
theorem dksX9_init_1 : cX9_init.data.toList.drop 24 = dktX9_init_1 := dk_seg dksX9_init_0 24 rfl rfl
theorem dX9_init_0 : decode cX9_init 0 = .ok (.aload_n 0, 1) := dk_42 (dk_at dksX9_init_0 0 rfl rfl)
theorem dX9_init_1 : decode cX9_init 1 = .ok (.invokespecial 3, 3) := dk_183 0 3 (dk_at dksX9_init_0 1 rfl rfl)
theorem dX9_init_4 : decode cX9_init 4 = .ok (.aload_n 0, 1) := dk_42 (dk_at dksX9_init_0 4 rfl rfl)
theorem dX9_init_5 : decode cX9_init 5 = .ok (.ldc 9, 2) := dk_18 9 (dk_at dksX9_init_0 5 rfl rfl)
theorem dX9_init_7 : decode cX9_init 7 = .ok (.putfield 11, 3) := dk_181 0 11 (dk_at dksX9_init_0 7 rfl rfl)
theorem dX9_init_10 : decode cX9_init 10 = .ok (.aload_n 0, 1) := dk_42 (dk_at dksX9_init_0 10 rfl rfl)
theorem dX9_init_11 : decode cX9_init 11 = .ok (.iconst 2, 1) := dk_5 (dk_at dksX9_init_0 11 rfl rfl)
theorem dX9_init_12 : decode cX9_init 12 = .ok (.newarray .boolean, 2) := dk_188_4 (dk_at dksX9_init_0 12 rfl rfl)
theorem dX9_init_14 : decode cX9_init 14 = .ok (.putfield 17, 3) := dk_181 0 17 (dk_at dksX9_init_0 14 rfl rfl)
theorem dX9_init_17 : decode cX9_init 17 = .ok (.aload_n 0, 1) := dk_42 (dk_at dksX9_init_0 17 rfl rfl)
theorem dX9_init_18 : decode cX9_init 18 = .ok (.aload_n 1, 1) := dk_43 (dk_at dksX9_init_0 18 rfl rfl)
theorem dX9_init_19 : decode cX9_init 19 = .ok (.putfield 21, 3) := dk_181 0 21 (dk_at dksX9_init_0 19 rfl rfl)
theorem dX9_init_22 : decode cX9_init 22 = .ok (.aload_n 0, 1) := dk_42 (dk_at dksX9_init_0 22 rfl rfl)
theorem dX9_init_23 : decode cX9_init 23 = .ok (.iload_n 2, 1) := dk_28 (dk_at dksX9_init_0 23 rfl rfl)
theorem dX9_init_24 : decode cX9_init 24 = .ok (.putfield 25, 3) := dk_181 0 25 (dk_at dksX9_init_1 0 rfl rfl)
theorem dX9_init_27 : decode cX9_init 27 = .ok (.aload_n 0, 1) := dk_42 (dk_at dksX9_init_1 3 rfl rfl)
theorem dX9_init_28 : decode cX9_init 28 = .ok (.invokevirtual 29, 3) := dk_182 0 29 (dk_at dksX9_init_1 4 rfl rfl)
theorem dX9_init_31 : decode cX9_init 31 = .ok (.return_, 1) := dk_177 (dk_at dksX9_init_1 7 rfl rfl)
abbrev cX9_go : ByteArray := prog_10_method_6_code
def yX9_go : MethodName := ⟨RX9, "go", "()V"⟩
def dkwX9_go_14 : List UInt8 := [146, 184, 0, 97, 181, 0, 11, 42, 89, 180, 0, 32, 4, 96, 181, 0, 32, 177]
abbrev dktX9_go_14 : List UInt8 := dkwX9_go_14 ++ []
def dkwX9_go_13 : List UInt8 := [178, 0, 91, 167, 0, 6, 178, 0, 94, 181, 0, 52, 42, 180, 0, 52, 178, 0, 91, 166, 0, 12, 42, 27]
abbrev dktX9_go_13 : List UInt8 := dkwX9_go_13 ++ dktX9_go_14
def dkwX9_go_12 : List UInt8 := [3, 181, 0, 42, 42, 178, 0, 85, 181, 0, 52, 167, 0, 52, 42, 27, 184, 0, 88, 153, 0, 9]
abbrev dktX9_go_12 : List UInt8 := dkwX9_go_12 ++ dktX9_go_13
def dkwX9_go_11 : List UInt8 := [181, 0, 32, 167, 255, 196, 42, 42, 180, 0, 32, 42, 180, 0, 39, 100, 7, 164, 0, 7, 4, 167, 0, 4]
abbrev dktX9_go_11 : List UInt8 := dkwX9_go_11 ++ dktX9_go_12
def dkwX9_go_10 : List UInt8 := [42, 42, 180, 0, 32, 182, 0, 35, 96, 16, 48, 100, 181, 0, 82, 42, 89, 180, 0, 32, 4, 96]
abbrev dktX9_go_10 : List UInt8 := dkwX9_go_10 ++ dktX9_go_11
def dkwX9_go_9 : List UInt8 := [153, 0, 52, 42, 180, 0, 32, 42, 180, 0, 39, 100, 7, 162, 0, 26, 42, 16, 10, 42, 180, 0, 82, 104]
abbrev dktX9_go_9 : List UInt8 := dkwX9_go_9 ++ dktX9_go_10
def dkwX9_go_8 : List UInt8 := [184, 0, 79, 153, 0, 103, 42, 3, 181, 0, 82, 42, 42, 180, 0, 32, 182, 0, 35, 184, 0, 79]
abbrev dktX9_go_8 : List UInt8 := dkwX9_go_8 ++ dktX9_go_9
def dkwX9_go_7 : List UInt8 := [167, 255, 209, 42, 44, 182, 0, 72, 181, 0, 11, 42, 178, 0, 76, 181, 0, 52, 167, 0, 159, 27]
abbrev dktX9_go_7 : List UInt8 := dkwX9_go_7 ++ dktX9_go_8
def dkwX9_go_6 : List UInt8 := [42, 180, 0, 32, 182, 0, 35, 146, 182, 0, 68, 87, 42, 89, 180, 0, 32, 4, 96, 181, 0, 32]
abbrev dktX9_go_6 : List UInt8 := dkwX9_go_6 ++ dktX9_go_7
def dkwX9_go_5 : List UInt8 := [42, 180, 0, 32, 182, 0, 35, 184, 0, 55, 153, 0, 39, 44, 182, 0, 64, 16, 7, 162, 0, 17, 44, 42]
abbrev dktX9_go_5 : List UInt8 := dkwX9_go_5 ++ dktX9_go_6
def dkwX9_go_4 : List UInt8 := [181, 0, 52, 167, 0, 244, 27, 184, 0, 55, 153, 0, 81, 187, 0, 59, 89, 16, 7, 183, 0, 61, 77, 42]
abbrev dktX9_go_4 : List UInt8 := dkwX9_go_4 ++ dktX9_go_5
def dkwX9_go_3 : List UInt8 := [180, 0, 32, 182, 0, 35, 60, 42, 180, 0, 32, 42, 180, 0, 25, 161, 0, 13, 42, 178, 0, 46]
abbrev dktX9_go_3 : List UInt8 := dkwX9_go_3 ++ dktX9_go_4
def dkwX9_go_2 : List UInt8 := [167, 255, 209, 42, 42, 180, 0, 32, 181, 0, 39, 42, 18, 9, 181, 0, 11, 42, 3, 181, 0, 42, 42, 42]
abbrev dktX9_go_2 : List UInt8 := dkwX9_go_2 ++ dktX9_go_3
def dkwX9_go_1 : List UInt8 := [42, 42, 180, 0, 32, 182, 0, 35, 16, 10, 160, 0, 16, 42, 89, 180, 0, 32, 4, 96, 181, 0, 32]
abbrev dktX9_go_1 : List UInt8 := dkwX9_go_1 ++ dktX9_go_2
def dkwX9_go_0 : List UInt8 := [42, 180, 0, 32, 42, 180, 0, 25, 162, 0, 42, 42, 42, 180, 0, 32, 182, 0, 35, 16, 32, 159, 0, 16]
abbrev dktX9_go_0 : List UInt8 := dkwX9_go_0 ++ dktX9_go_1
theorem dksX9_go_0 : cX9_go.data.toList.drop 0 = dktX9_go_0 := by decide +kernel
theorem dksX9_go_1 : cX9_go.data.toList.drop 24 = dktX9_go_1 := dk_seg dksX9_go_0 24 rfl rfl
theorem dksX9_go_2 : cX9_go.data.toList.drop 47 = dktX9_go_2 := dk_seg dksX9_go_1 23 rfl rfl
theorem dksX9_go_3 : cX9_go.data.toList.drop 71 = dktX9_go_3 := dk_seg dksX9_go_2 24 rfl rfl
theorem dksX9_go_4 : cX9_go.data.toList.drop 93 = dktX9_go_4 := dk_seg dksX9_go_3 22 rfl rfl
theorem dksX9_go_5 : cX9_go.data.toList.drop 117 = dktX9_go_5 := dk_seg dksX9_go_4 24 rfl rfl
theorem dksX9_go_6 : cX9_go.data.toList.drop 141 = dktX9_go_6 := dk_seg dksX9_go_5 24 rfl rfl
theorem dksX9_go_7 : cX9_go.data.toList.drop 163 = dktX9_go_7 := dk_seg dksX9_go_6 22 rfl rfl
theorem dksX9_go_8 : cX9_go.data.toList.drop 185 = dktX9_go_8 := dk_seg dksX9_go_7 22 rfl rfl
theorem dksX9_go_9 : cX9_go.data.toList.drop 207 = dktX9_go_9 := dk_seg dksX9_go_8 22 rfl rfl
theorem dksX9_go_10 : cX9_go.data.toList.drop 231 = dktX9_go_10 := dk_seg dksX9_go_9 24 rfl rfl
theorem dksX9_go_11 : cX9_go.data.toList.drop 253 = dktX9_go_11 := dk_seg dksX9_go_10 22 rfl rfl
theorem dksX9_go_12 : cX9_go.data.toList.drop 277 = dktX9_go_12 := dk_seg dksX9_go_11 24 rfl rfl
theorem dksX9_go_13 : cX9_go.data.toList.drop 299 = dktX9_go_13 := dk_seg dksX9_go_12 22 rfl rfl
theorem dksX9_go_14 : cX9_go.data.toList.drop 323 = dktX9_go_14 := dk_seg dksX9_go_13 24 rfl rfl
theorem dX9_go_0 : decode cX9_go 0 = .ok (.aload_n 0, 1) := dk_42 (dk_at dksX9_go_0 0 rfl rfl)
theorem dX9_go_1 : decode cX9_go 1 = .ok (.getfield 32, 3) := dk_180 0 32 (dk_at dksX9_go_0 1 rfl rfl)
theorem dX9_go_4 : decode cX9_go 4 = .ok (.aload_n 0, 1) := dk_42 (dk_at dksX9_go_0 4 rfl rfl)
theorem dX9_go_5 : decode cX9_go 5 = .ok (.getfield 25, 3) := dk_180 0 25 (dk_at dksX9_go_0 5 rfl rfl)
theorem dX9_go_8 : decode cX9_go 8 = .ok (.if_icmp .ge 42, 3) := dk_162 0 42 (dk_at dksX9_go_0 8 rfl rfl)
theorem dX9_go_11 : decode cX9_go 11 = .ok (.aload_n 0, 1) := dk_42 (dk_at dksX9_go_0 11 rfl rfl)
theorem dX9_go_12 : decode cX9_go 12 = .ok (.aload_n 0, 1) := dk_42 (dk_at dksX9_go_0 12 rfl rfl)
theorem dX9_go_13 : decode cX9_go 13 = .ok (.getfield 32, 3) := dk_180 0 32 (dk_at dksX9_go_0 13 rfl rfl)
theorem dX9_go_16 : decode cX9_go 16 = .ok (.invokevirtual 35, 3) := dk_182 0 35 (dk_at dksX9_go_0 16 rfl rfl)
theorem dX9_go_19 : decode cX9_go 19 = .ok (.bipush 32, 2) := dk_16 32 (dk_at dksX9_go_0 19 rfl rfl)
theorem dX9_go_21 : decode cX9_go 21 = .ok (.if_icmp .eq 16, 3) := dk_159 0 16 (dk_at dksX9_go_0 21 rfl rfl)
theorem dX9_go_24 : decode cX9_go 24 = .ok (.aload_n 0, 1) := dk_42 (dk_at dksX9_go_1 0 rfl rfl)
theorem dX9_go_25 : decode cX9_go 25 = .ok (.aload_n 0, 1) := dk_42 (dk_at dksX9_go_1 1 rfl rfl)
theorem dX9_go_26 : decode cX9_go 26 = .ok (.getfield 32, 3) := dk_180 0 32 (dk_at dksX9_go_1 2 rfl rfl)
theorem dX9_go_29 : decode cX9_go 29 = .ok (.invokevirtual 35, 3) := dk_182 0 35 (dk_at dksX9_go_1 5 rfl rfl)
theorem dX9_go_32 : decode cX9_go 32 = .ok (.bipush 10, 2) := dk_16 10 (dk_at dksX9_go_1 8 rfl rfl)
theorem dX9_go_34 : decode cX9_go 34 = .ok (.if_icmp .ne 16, 3) := dk_160 0 16 (dk_at dksX9_go_1 10 rfl rfl)
theorem dX9_go_37 : decode cX9_go 37 = .ok (.aload_n 0, 1) := dk_42 (dk_at dksX9_go_1 13 rfl rfl)
theorem dX9_go_38 : decode cX9_go 38 = .ok (.dup, 1) := dk_89 (dk_at dksX9_go_1 14 rfl rfl)
theorem dX9_go_39 : decode cX9_go 39 = .ok (.getfield 32, 3) := dk_180 0 32 (dk_at dksX9_go_1 15 rfl rfl)
theorem dX9_go_42 : decode cX9_go 42 = .ok (.iconst 1, 1) := dk_4 (dk_at dksX9_go_1 18 rfl rfl)
theorem dX9_go_43 : decode cX9_go 43 = .ok (.iadd, 1) := dk_96 (dk_at dksX9_go_1 19 rfl rfl)
theorem dX9_go_44 : decode cX9_go 44 = .ok (.putfield 32, 3) := dk_181 0 32 (dk_at dksX9_go_1 20 rfl rfl)
theorem dX9_go_47 : decode cX9_go 47 = .ok (.goto (-47), 3) := dk_167 255 209 (dk_at dksX9_go_2 0 rfl rfl)
theorem dX9_go_50 : decode cX9_go 50 = .ok (.aload_n 0, 1) := dk_42 (dk_at dksX9_go_2 3 rfl rfl)
theorem dX9_go_51 : decode cX9_go 51 = .ok (.aload_n 0, 1) := dk_42 (dk_at dksX9_go_2 4 rfl rfl)
theorem dX9_go_52 : decode cX9_go 52 = .ok (.getfield 32, 3) := dk_180 0 32 (dk_at dksX9_go_2 5 rfl rfl)
theorem dX9_go_55 : decode cX9_go 55 = .ok (.putfield 39, 3) := dk_181 0 39 (dk_at dksX9_go_2 8 rfl rfl)
theorem dX9_go_58 : decode cX9_go 58 = .ok (.aload_n 0, 1) := dk_42 (dk_at dksX9_go_2 11 rfl rfl)
theorem dX9_go_59 : decode cX9_go 59 = .ok (.ldc 9, 2) := dk_18 9 (dk_at dksX9_go_2 12 rfl rfl)
theorem dX9_go_61 : decode cX9_go 61 = .ok (.putfield 11, 3) := dk_181 0 11 (dk_at dksX9_go_2 14 rfl rfl)
theorem dX9_go_64 : decode cX9_go 64 = .ok (.aload_n 0, 1) := dk_42 (dk_at dksX9_go_2 17 rfl rfl)
theorem dX9_go_65 : decode cX9_go 65 = .ok (.iconst 0, 1) := dk_3 (dk_at dksX9_go_2 18 rfl rfl)
theorem dX9_go_66 : decode cX9_go 66 = .ok (.putfield 42, 3) := dk_181 0 42 (dk_at dksX9_go_2 19 rfl rfl)
theorem dX9_go_69 : decode cX9_go 69 = .ok (.aload_n 0, 1) := dk_42 (dk_at dksX9_go_2 22 rfl rfl)
theorem dX9_go_70 : decode cX9_go 70 = .ok (.aload_n 0, 1) := dk_42 (dk_at dksX9_go_2 23 rfl rfl)
theorem dX9_go_71 : decode cX9_go 71 = .ok (.getfield 32, 3) := dk_180 0 32 (dk_at dksX9_go_3 0 rfl rfl)
theorem dX9_go_74 : decode cX9_go 74 = .ok (.invokevirtual 35, 3) := dk_182 0 35 (dk_at dksX9_go_3 3 rfl rfl)
theorem dX9_go_77 : decode cX9_go 77 = .ok (.istore_n 1, 1) := dk_60 (dk_at dksX9_go_3 6 rfl rfl)
theorem dX9_go_78 : decode cX9_go 78 = .ok (.aload_n 0, 1) := dk_42 (dk_at dksX9_go_3 7 rfl rfl)
theorem dX9_go_79 : decode cX9_go 79 = .ok (.getfield 32, 3) := dk_180 0 32 (dk_at dksX9_go_3 8 rfl rfl)
theorem dX9_go_82 : decode cX9_go 82 = .ok (.aload_n 0, 1) := dk_42 (dk_at dksX9_go_3 11 rfl rfl)
theorem dX9_go_83 : decode cX9_go 83 = .ok (.getfield 25, 3) := dk_180 0 25 (dk_at dksX9_go_3 12 rfl rfl)
theorem dX9_go_86 : decode cX9_go 86 = .ok (.if_icmp .lt 13, 3) := dk_161 0 13 (dk_at dksX9_go_3 15 rfl rfl)
theorem dX9_go_89 : decode cX9_go 89 = .ok (.aload_n 0, 1) := dk_42 (dk_at dksX9_go_3 18 rfl rfl)
theorem dX9_go_90 : decode cX9_go 90 = .ok (.getstatic 46, 3) := dk_178 0 46 (dk_at dksX9_go_3 19 rfl rfl)
theorem dX9_go_93 : decode cX9_go 93 = .ok (.putfield 52, 3) := dk_181 0 52 (dk_at dksX9_go_4 0 rfl rfl)
theorem dX9_go_96 : decode cX9_go 96 = .ok (.goto 244, 3) := dk_167 0 244 (dk_at dksX9_go_4 3 rfl rfl)
theorem dX9_go_99 : decode cX9_go 99 = .ok (.iload_n 1, 1) := dk_27 (dk_at dksX9_go_4 6 rfl rfl)
theorem dX9_go_100 : decode cX9_go 100 = .ok (.invokestatic 55, 3) := dk_184 0 55 (dk_at dksX9_go_4 7 rfl rfl)
theorem dX9_go_103 : decode cX9_go 103 = .ok (.ifCond .eq 81, 3) := dk_153 0 81 (dk_at dksX9_go_4 10 rfl rfl)
theorem dX9_go_106 : decode cX9_go 106 = .ok (.new 59, 3) := dk_187 0 59 (dk_at dksX9_go_4 13 rfl rfl)
theorem dX9_go_109 : decode cX9_go 109 = .ok (.dup, 1) := dk_89 (dk_at dksX9_go_4 16 rfl rfl)
theorem dX9_go_110 : decode cX9_go 110 = .ok (.bipush 7, 2) := dk_16 7 (dk_at dksX9_go_4 17 rfl rfl)
theorem dX9_go_112 : decode cX9_go 112 = .ok (.invokespecial 61, 3) := dk_183 0 61 (dk_at dksX9_go_4 19 rfl rfl)
theorem dX9_go_115 : decode cX9_go 115 = .ok (.astore_n 2, 1) := dk_77 (dk_at dksX9_go_4 22 rfl rfl)
theorem dX9_go_116 : decode cX9_go 116 = .ok (.aload_n 0, 1) := dk_42 (dk_at dksX9_go_4 23 rfl rfl)
theorem dX9_go_117 : decode cX9_go 117 = .ok (.aload_n 0, 1) := dk_42 (dk_at dksX9_go_5 0 rfl rfl)
theorem dX9_go_118 : decode cX9_go 118 = .ok (.getfield 32, 3) := dk_180 0 32 (dk_at dksX9_go_5 1 rfl rfl)
theorem dX9_go_121 : decode cX9_go 121 = .ok (.invokevirtual 35, 3) := dk_182 0 35 (dk_at dksX9_go_5 4 rfl rfl)
theorem dX9_go_124 : decode cX9_go 124 = .ok (.invokestatic 55, 3) := dk_184 0 55 (dk_at dksX9_go_5 7 rfl rfl)
theorem dX9_go_127 : decode cX9_go 127 = .ok (.ifCond .eq 39, 3) := dk_153 0 39 (dk_at dksX9_go_5 10 rfl rfl)
theorem dX9_go_130 : decode cX9_go 130 = .ok (.aload_n 2, 1) := dk_44 (dk_at dksX9_go_5 13 rfl rfl)
theorem dX9_go_131 : decode cX9_go 131 = .ok (.invokevirtual 64, 3) := dk_182 0 64 (dk_at dksX9_go_5 14 rfl rfl)
theorem dX9_go_134 : decode cX9_go 134 = .ok (.bipush 7, 2) := dk_16 7 (dk_at dksX9_go_5 17 rfl rfl)
theorem dX9_go_136 : decode cX9_go 136 = .ok (.if_icmp .ge 17, 3) := dk_162 0 17 (dk_at dksX9_go_5 19 rfl rfl)
theorem dX9_go_139 : decode cX9_go 139 = .ok (.aload_n 2, 1) := dk_44 (dk_at dksX9_go_5 22 rfl rfl)
theorem dX9_go_140 : decode cX9_go 140 = .ok (.aload_n 0, 1) := dk_42 (dk_at dksX9_go_5 23 rfl rfl)
theorem dX9_go_141 : decode cX9_go 141 = .ok (.aload_n 0, 1) := dk_42 (dk_at dksX9_go_6 0 rfl rfl)
theorem dX9_go_142 : decode cX9_go 142 = .ok (.getfield 32, 3) := dk_180 0 32 (dk_at dksX9_go_6 1 rfl rfl)
theorem dX9_go_145 : decode cX9_go 145 = .ok (.invokevirtual 35, 3) := dk_182 0 35 (dk_at dksX9_go_6 4 rfl rfl)
theorem dX9_go_148 : decode cX9_go 148 = .ok (.i2c, 1) := dk_146 (dk_at dksX9_go_6 7 rfl rfl)
theorem dX9_go_149 : decode cX9_go 149 = .ok (.invokevirtual 68, 3) := dk_182 0 68 (dk_at dksX9_go_6 8 rfl rfl)
theorem dX9_go_152 : decode cX9_go 152 = .ok (.pop, 1) := dk_87 (dk_at dksX9_go_6 11 rfl rfl)
theorem dX9_go_153 : decode cX9_go 153 = .ok (.aload_n 0, 1) := dk_42 (dk_at dksX9_go_6 12 rfl rfl)
theorem dX9_go_154 : decode cX9_go 154 = .ok (.dup, 1) := dk_89 (dk_at dksX9_go_6 13 rfl rfl)
theorem dX9_go_155 : decode cX9_go 155 = .ok (.getfield 32, 3) := dk_180 0 32 (dk_at dksX9_go_6 14 rfl rfl)
theorem dX9_go_158 : decode cX9_go 158 = .ok (.iconst 1, 1) := dk_4 (dk_at dksX9_go_6 17 rfl rfl)
theorem dX9_go_159 : decode cX9_go 159 = .ok (.iadd, 1) := dk_96 (dk_at dksX9_go_6 18 rfl rfl)
theorem dX9_go_160 : decode cX9_go 160 = .ok (.putfield 32, 3) := dk_181 0 32 (dk_at dksX9_go_6 19 rfl rfl)
theorem dX9_go_163 : decode cX9_go 163 = .ok (.goto (-47), 3) := dk_167 255 209 (dk_at dksX9_go_7 0 rfl rfl)
theorem dX9_go_166 : decode cX9_go 166 = .ok (.aload_n 0, 1) := dk_42 (dk_at dksX9_go_7 3 rfl rfl)
theorem dX9_go_167 : decode cX9_go 167 = .ok (.aload_n 2, 1) := dk_44 (dk_at dksX9_go_7 4 rfl rfl)
theorem dX9_go_168 : decode cX9_go 168 = .ok (.invokevirtual 72, 3) := dk_182 0 72 (dk_at dksX9_go_7 5 rfl rfl)
theorem dX9_go_171 : decode cX9_go 171 = .ok (.putfield 11, 3) := dk_181 0 11 (dk_at dksX9_go_7 8 rfl rfl)
theorem dX9_go_174 : decode cX9_go 174 = .ok (.aload_n 0, 1) := dk_42 (dk_at dksX9_go_7 11 rfl rfl)
theorem dX9_go_175 : decode cX9_go 175 = .ok (.getstatic 76, 3) := dk_178 0 76 (dk_at dksX9_go_7 12 rfl rfl)
theorem dX9_go_178 : decode cX9_go 178 = .ok (.putfield 52, 3) := dk_181 0 52 (dk_at dksX9_go_7 15 rfl rfl)
theorem dX9_go_181 : decode cX9_go 181 = .ok (.goto 159, 3) := dk_167 0 159 (dk_at dksX9_go_7 18 rfl rfl)
theorem dX9_go_184 : decode cX9_go 184 = .ok (.iload_n 1, 1) := dk_27 (dk_at dksX9_go_7 21 rfl rfl)
theorem dX9_go_185 : decode cX9_go 185 = .ok (.invokestatic 79, 3) := dk_184 0 79 (dk_at dksX9_go_8 0 rfl rfl)
theorem dX9_go_188 : decode cX9_go 188 = .ok (.ifCond .eq 103, 3) := dk_153 0 103 (dk_at dksX9_go_8 3 rfl rfl)
theorem dX9_go_191 : decode cX9_go 191 = .ok (.aload_n 0, 1) := dk_42 (dk_at dksX9_go_8 6 rfl rfl)
theorem dX9_go_192 : decode cX9_go 192 = .ok (.iconst 0, 1) := dk_3 (dk_at dksX9_go_8 7 rfl rfl)
theorem dX9_go_193 : decode cX9_go 193 = .ok (.putfield 82, 3) := dk_181 0 82 (dk_at dksX9_go_8 8 rfl rfl)
theorem dX9_go_196 : decode cX9_go 196 = .ok (.aload_n 0, 1) := dk_42 (dk_at dksX9_go_8 11 rfl rfl)
theorem dX9_go_197 : decode cX9_go 197 = .ok (.aload_n 0, 1) := dk_42 (dk_at dksX9_go_8 12 rfl rfl)
theorem dX9_go_198 : decode cX9_go 198 = .ok (.getfield 32, 3) := dk_180 0 32 (dk_at dksX9_go_8 13 rfl rfl)
theorem dX9_go_201 : decode cX9_go 201 = .ok (.invokevirtual 35, 3) := dk_182 0 35 (dk_at dksX9_go_8 16 rfl rfl)
theorem dX9_go_204 : decode cX9_go 204 = .ok (.invokestatic 79, 3) := dk_184 0 79 (dk_at dksX9_go_8 19 rfl rfl)
theorem dX9_go_207 : decode cX9_go 207 = .ok (.ifCond .eq 52, 3) := dk_153 0 52 (dk_at dksX9_go_9 0 rfl rfl)
theorem dX9_go_210 : decode cX9_go 210 = .ok (.aload_n 0, 1) := dk_42 (dk_at dksX9_go_9 3 rfl rfl)
theorem dX9_go_211 : decode cX9_go 211 = .ok (.getfield 32, 3) := dk_180 0 32 (dk_at dksX9_go_9 4 rfl rfl)
theorem dX9_go_214 : decode cX9_go 214 = .ok (.aload_n 0, 1) := dk_42 (dk_at dksX9_go_9 7 rfl rfl)
theorem dX9_go_215 : decode cX9_go 215 = .ok (.getfield 39, 3) := dk_180 0 39 (dk_at dksX9_go_9 8 rfl rfl)
theorem dX9_go_218 : decode cX9_go 218 = .ok (.isub, 1) := dk_100 (dk_at dksX9_go_9 11 rfl rfl)
theorem dX9_go_219 : decode cX9_go 219 = .ok (.iconst 4, 1) := dk_7 (dk_at dksX9_go_9 12 rfl rfl)
theorem dX9_go_220 : decode cX9_go 220 = .ok (.if_icmp .ge 26, 3) := dk_162 0 26 (dk_at dksX9_go_9 13 rfl rfl)
theorem dX9_go_223 : decode cX9_go 223 = .ok (.aload_n 0, 1) := dk_42 (dk_at dksX9_go_9 16 rfl rfl)
theorem dX9_go_224 : decode cX9_go 224 = .ok (.bipush 10, 2) := dk_16 10 (dk_at dksX9_go_9 17 rfl rfl)
theorem dX9_go_226 : decode cX9_go 226 = .ok (.aload_n 0, 1) := dk_42 (dk_at dksX9_go_9 19 rfl rfl)
theorem dX9_go_227 : decode cX9_go 227 = .ok (.getfield 82, 3) := dk_180 0 82 (dk_at dksX9_go_9 20 rfl rfl)
theorem dX9_go_230 : decode cX9_go 230 = .ok (.imul, 1) := dk_104 (dk_at dksX9_go_9 23 rfl rfl)
theorem dX9_go_231 : decode cX9_go 231 = .ok (.aload_n 0, 1) := dk_42 (dk_at dksX9_go_10 0 rfl rfl)
theorem dX9_go_232 : decode cX9_go 232 = .ok (.aload_n 0, 1) := dk_42 (dk_at dksX9_go_10 1 rfl rfl)
theorem dX9_go_233 : decode cX9_go 233 = .ok (.getfield 32, 3) := dk_180 0 32 (dk_at dksX9_go_10 2 rfl rfl)
theorem dX9_go_236 : decode cX9_go 236 = .ok (.invokevirtual 35, 3) := dk_182 0 35 (dk_at dksX9_go_10 5 rfl rfl)
theorem dX9_go_239 : decode cX9_go 239 = .ok (.iadd, 1) := dk_96 (dk_at dksX9_go_10 8 rfl rfl)
theorem dX9_go_240 : decode cX9_go 240 = .ok (.bipush 48, 2) := dk_16 48 (dk_at dksX9_go_10 9 rfl rfl)
theorem dX9_go_242 : decode cX9_go 242 = .ok (.isub, 1) := dk_100 (dk_at dksX9_go_10 11 rfl rfl)
theorem dX9_go_243 : decode cX9_go 243 = .ok (.putfield 82, 3) := dk_181 0 82 (dk_at dksX9_go_10 12 rfl rfl)
theorem dX9_go_246 : decode cX9_go 246 = .ok (.aload_n 0, 1) := dk_42 (dk_at dksX9_go_10 15 rfl rfl)
theorem dX9_go_247 : decode cX9_go 247 = .ok (.dup, 1) := dk_89 (dk_at dksX9_go_10 16 rfl rfl)
theorem dX9_go_248 : decode cX9_go 248 = .ok (.getfield 32, 3) := dk_180 0 32 (dk_at dksX9_go_10 17 rfl rfl)
theorem dX9_go_251 : decode cX9_go 251 = .ok (.iconst 1, 1) := dk_4 (dk_at dksX9_go_10 20 rfl rfl)
theorem dX9_go_252 : decode cX9_go 252 = .ok (.iadd, 1) := dk_96 (dk_at dksX9_go_10 21 rfl rfl)
theorem dX9_go_253 : decode cX9_go 253 = .ok (.putfield 32, 3) := dk_181 0 32 (dk_at dksX9_go_11 0 rfl rfl)
theorem dX9_go_256 : decode cX9_go 256 = .ok (.goto (-60), 3) := dk_167 255 196 (dk_at dksX9_go_11 3 rfl rfl)
theorem dX9_go_259 : decode cX9_go 259 = .ok (.aload_n 0, 1) := dk_42 (dk_at dksX9_go_11 6 rfl rfl)
theorem dX9_go_260 : decode cX9_go 260 = .ok (.aload_n 0, 1) := dk_42 (dk_at dksX9_go_11 7 rfl rfl)
theorem dX9_go_261 : decode cX9_go 261 = .ok (.getfield 32, 3) := dk_180 0 32 (dk_at dksX9_go_11 8 rfl rfl)
theorem dX9_go_264 : decode cX9_go 264 = .ok (.aload_n 0, 1) := dk_42 (dk_at dksX9_go_11 11 rfl rfl)
theorem dX9_go_265 : decode cX9_go 265 = .ok (.getfield 39, 3) := dk_180 0 39 (dk_at dksX9_go_11 12 rfl rfl)
theorem dX9_go_268 : decode cX9_go 268 = .ok (.isub, 1) := dk_100 (dk_at dksX9_go_11 15 rfl rfl)
theorem dX9_go_269 : decode cX9_go 269 = .ok (.iconst 4, 1) := dk_7 (dk_at dksX9_go_11 16 rfl rfl)
theorem dX9_go_270 : decode cX9_go 270 = .ok (.if_icmp .le 7, 3) := dk_164 0 7 (dk_at dksX9_go_11 17 rfl rfl)
theorem dX9_go_273 : decode cX9_go 273 = .ok (.iconst 1, 1) := dk_4 (dk_at dksX9_go_11 20 rfl rfl)
theorem dX9_go_274 : decode cX9_go 274 = .ok (.goto 4, 3) := dk_167 0 4 (dk_at dksX9_go_11 21 rfl rfl)
theorem dX9_go_277 : decode cX9_go 277 = .ok (.iconst 0, 1) := dk_3 (dk_at dksX9_go_12 0 rfl rfl)
theorem dX9_go_278 : decode cX9_go 278 = .ok (.putfield 42, 3) := dk_181 0 42 (dk_at dksX9_go_12 1 rfl rfl)
theorem dX9_go_281 : decode cX9_go 281 = .ok (.aload_n 0, 1) := dk_42 (dk_at dksX9_go_12 4 rfl rfl)
theorem dX9_go_282 : decode cX9_go 282 = .ok (.getstatic 85, 3) := dk_178 0 85 (dk_at dksX9_go_12 5 rfl rfl)
theorem dX9_go_285 : decode cX9_go 285 = .ok (.putfield 52, 3) := dk_181 0 52 (dk_at dksX9_go_12 8 rfl rfl)
theorem dX9_go_288 : decode cX9_go 288 = .ok (.goto 52, 3) := dk_167 0 52 (dk_at dksX9_go_12 11 rfl rfl)
theorem dX9_go_291 : decode cX9_go 291 = .ok (.aload_n 0, 1) := dk_42 (dk_at dksX9_go_12 14 rfl rfl)
theorem dX9_go_292 : decode cX9_go 292 = .ok (.iload_n 1, 1) := dk_27 (dk_at dksX9_go_12 15 rfl rfl)
theorem dX9_go_293 : decode cX9_go 293 = .ok (.invokestatic 88, 3) := dk_184 0 88 (dk_at dksX9_go_12 16 rfl rfl)
theorem dX9_go_296 : decode cX9_go 296 = .ok (.ifCond .eq 9, 3) := dk_153 0 9 (dk_at dksX9_go_12 19 rfl rfl)
theorem dX9_go_299 : decode cX9_go 299 = .ok (.getstatic 91, 3) := dk_178 0 91 (dk_at dksX9_go_13 0 rfl rfl)
theorem dX9_go_302 : decode cX9_go 302 = .ok (.goto 6, 3) := dk_167 0 6 (dk_at dksX9_go_13 3 rfl rfl)
theorem dX9_go_305 : decode cX9_go 305 = .ok (.getstatic 94, 3) := dk_178 0 94 (dk_at dksX9_go_13 6 rfl rfl)
theorem dX9_go_308 : decode cX9_go 308 = .ok (.putfield 52, 3) := dk_181 0 52 (dk_at dksX9_go_13 9 rfl rfl)
theorem dX9_go_311 : decode cX9_go 311 = .ok (.aload_n 0, 1) := dk_42 (dk_at dksX9_go_13 12 rfl rfl)
theorem dX9_go_312 : decode cX9_go 312 = .ok (.getfield 52, 3) := dk_180 0 52 (dk_at dksX9_go_13 13 rfl rfl)
theorem dX9_go_315 : decode cX9_go 315 = .ok (.getstatic 91, 3) := dk_178 0 91 (dk_at dksX9_go_13 16 rfl rfl)
theorem dX9_go_318 : decode cX9_go 318 = .ok (.if_acmp .ne 12, 3) := dk_166 0 12 (dk_at dksX9_go_13 19 rfl rfl)
theorem dX9_go_321 : decode cX9_go 321 = .ok (.aload_n 0, 1) := dk_42 (dk_at dksX9_go_13 22 rfl rfl)
theorem dX9_go_322 : decode cX9_go 322 = .ok (.iload_n 1, 1) := dk_27 (dk_at dksX9_go_13 23 rfl rfl)
theorem dX9_go_323 : decode cX9_go 323 = .ok (.i2c, 1) := dk_146 (dk_at dksX9_go_14 0 rfl rfl)
theorem dX9_go_324 : decode cX9_go 324 = .ok (.invokestatic 97, 3) := dk_184 0 97 (dk_at dksX9_go_14 1 rfl rfl)
theorem dX9_go_327 : decode cX9_go 327 = .ok (.putfield 11, 3) := dk_181 0 11 (dk_at dksX9_go_14 4 rfl rfl)
theorem dX9_go_330 : decode cX9_go 330 = .ok (.aload_n 0, 1) := dk_42 (dk_at dksX9_go_14 7 rfl rfl)
theorem dX9_go_331 : decode cX9_go 331 = .ok (.dup, 1) := dk_89 (dk_at dksX9_go_14 8 rfl rfl)
theorem dX9_go_332 : decode cX9_go 332 = .ok (.getfield 32, 3) := dk_180 0 32 (dk_at dksX9_go_14 9 rfl rfl)
theorem dX9_go_335 : decode cX9_go 335 = .ok (.iconst 1, 1) := dk_4 (dk_at dksX9_go_14 12 rfl rfl)
theorem dX9_go_336 : decode cX9_go 336 = .ok (.iadd, 1) := dk_96 (dk_at dksX9_go_14 13 rfl rfl)
theorem dX9_go_337 : decode cX9_go 337 = .ok (.putfield 32, 3) := dk_181 0 32 (dk_at dksX9_go_14 14 rfl rfl)
theorem dX9_go_340 : decode cX9_go 340 = .ok (.return_, 1) := dk_177 (dk_at dksX9_go_14 17 rfl rfl)
abbrev cX9_byteAt : ByteArray := prog_10_method_2_code
def yX9_byteAt : MethodName := ⟨RX9, "byteAt", "(I)I"⟩
def dkwX9_byteAt_0 : List UInt8 := [27, 42, 180, 0, 25, 162, 0, 16, 42, 180, 0, 21, 27, 51, 17, 0, 255, 126, 167, 0, 4, 3, 172]
abbrev dktX9_byteAt_0 : List UInt8 := dkwX9_byteAt_0 ++ []
theorem dksX9_byteAt_0 : cX9_byteAt.data.toList.drop 0 = dktX9_byteAt_0 := by decide +kernel
theorem dX9_byteAt_0 : decode cX9_byteAt 0 = .ok (.iload_n 1, 1) := dk_27 (dk_at dksX9_byteAt_0 0 rfl rfl)
theorem dX9_byteAt_1 : decode cX9_byteAt 1 = .ok (.aload_n 0, 1) := dk_42 (dk_at dksX9_byteAt_0 1 rfl rfl)
theorem dX9_byteAt_2 : decode cX9_byteAt 2 = .ok (.getfield 25, 3) := dk_180 0 25 (dk_at dksX9_byteAt_0 2 rfl rfl)
theorem dX9_byteAt_5 : decode cX9_byteAt 5 = .ok (.if_icmp .ge 16, 3) := dk_162 0 16 (dk_at dksX9_byteAt_0 5 rfl rfl)
theorem dX9_byteAt_8 : decode cX9_byteAt 8 = .ok (.aload_n 0, 1) := dk_42 (dk_at dksX9_byteAt_0 8 rfl rfl)
theorem dX9_byteAt_9 : decode cX9_byteAt 9 = .ok (.getfield 21, 3) := dk_180 0 21 (dk_at dksX9_byteAt_0 9 rfl rfl)
theorem dX9_byteAt_12 : decode cX9_byteAt 12 = .ok (.iload_n 1, 1) := dk_27 (dk_at dksX9_byteAt_0 12 rfl rfl)
theorem dX9_byteAt_13 : decode cX9_byteAt 13 = .ok (.baload, 1) := dk_51 (dk_at dksX9_byteAt_0 13 rfl rfl)
theorem dX9_byteAt_14 : decode cX9_byteAt 14 = .ok (.sipush 255, 3) := dk_17 0 255 (dk_at dksX9_byteAt_0 14 rfl rfl)
theorem dX9_byteAt_17 : decode cX9_byteAt 17 = .ok (.iand, 1) := dk_126 (dk_at dksX9_byteAt_0 17 rfl rfl)
theorem dX9_byteAt_18 : decode cX9_byteAt 18 = .ok (.goto 4, 3) := dk_167 0 4 (dk_at dksX9_byteAt_0 18 rfl rfl)
theorem dX9_byteAt_21 : decode cX9_byteAt 21 = .ok (.iconst 0, 1) := dk_3 (dk_at dksX9_byteAt_0 21 rfl rfl)
theorem dX9_byteAt_22 : decode cX9_byteAt 22 = .ok (.ireturn, 1) := dk_172 (dk_at dksX9_byteAt_0 22 rfl rfl)
abbrev cX9_isLetter : ByteArray := prog_10_method_3_code
def yX9_isLetter : MethodName := ⟨RX9, "isLetter", "(I)Z"⟩
def dkwX9_isLetter_0 : List UInt8 := [26, 16, 97, 161, 0, 13, 26, 16, 122, 163, 0, 7, 4, 167, 0, 4, 3, 172]
abbrev dktX9_isLetter_0 : List UInt8 := dkwX9_isLetter_0 ++ []
theorem dksX9_isLetter_0 : cX9_isLetter.data.toList.drop 0 = dktX9_isLetter_0 := by decide +kernel
theorem dX9_isLetter_0 : decode cX9_isLetter 0 = .ok (.iload_n 0, 1) := dk_26 (dk_at dksX9_isLetter_0 0 rfl rfl)
theorem dX9_isLetter_1 : decode cX9_isLetter 1 = .ok (.bipush 97, 2) := dk_16 97 (dk_at dksX9_isLetter_0 1 rfl rfl)
theorem dX9_isLetter_3 : decode cX9_isLetter 3 = .ok (.if_icmp .lt 13, 3) := dk_161 0 13 (dk_at dksX9_isLetter_0 3 rfl rfl)
theorem dX9_isLetter_6 : decode cX9_isLetter 6 = .ok (.iload_n 0, 1) := dk_26 (dk_at dksX9_isLetter_0 6 rfl rfl)
theorem dX9_isLetter_7 : decode cX9_isLetter 7 = .ok (.bipush 122, 2) := dk_16 122 (dk_at dksX9_isLetter_0 7 rfl rfl)
theorem dX9_isLetter_9 : decode cX9_isLetter 9 = .ok (.if_icmp .gt 7, 3) := dk_163 0 7 (dk_at dksX9_isLetter_0 9 rfl rfl)
theorem dX9_isLetter_12 : decode cX9_isLetter 12 = .ok (.iconst 1, 1) := dk_4 (dk_at dksX9_isLetter_0 12 rfl rfl)
theorem dX9_isLetter_13 : decode cX9_isLetter 13 = .ok (.goto 4, 3) := dk_167 0 4 (dk_at dksX9_isLetter_0 13 rfl rfl)
theorem dX9_isLetter_16 : decode cX9_isLetter 16 = .ok (.iconst 0, 1) := dk_3 (dk_at dksX9_isLetter_0 16 rfl rfl)
theorem dX9_isLetter_17 : decode cX9_isLetter 17 = .ok (.ireturn, 1) := dk_172 (dk_at dksX9_isLetter_0 17 rfl rfl)
abbrev cX9_isDigit : ByteArray := prog_10_method_4_code
def yX9_isDigit : MethodName := ⟨RX9, "isDigit", "(I)Z"⟩
def dkwX9_isDigit_0 : List UInt8 := [26, 16, 48, 161, 0, 13, 26, 16, 57, 163, 0, 7, 4, 167, 0, 4, 3, 172]
abbrev dktX9_isDigit_0 : List UInt8 := dkwX9_isDigit_0 ++ []
theorem dksX9_isDigit_0 : cX9_isDigit.data.toList.drop 0 = dktX9_isDigit_0 := by decide +kernel
theorem dX9_isDigit_0 : decode cX9_isDigit 0 = .ok (.iload_n 0, 1) := dk_26 (dk_at dksX9_isDigit_0 0 rfl rfl)
theorem dX9_isDigit_1 : decode cX9_isDigit 1 = .ok (.bipush 48, 2) := dk_16 48 (dk_at dksX9_isDigit_0 1 rfl rfl)
theorem dX9_isDigit_3 : decode cX9_isDigit 3 = .ok (.if_icmp .lt 13, 3) := dk_161 0 13 (dk_at dksX9_isDigit_0 3 rfl rfl)
theorem dX9_isDigit_6 : decode cX9_isDigit 6 = .ok (.iload_n 0, 1) := dk_26 (dk_at dksX9_isDigit_0 6 rfl rfl)
theorem dX9_isDigit_7 : decode cX9_isDigit 7 = .ok (.bipush 57, 2) := dk_16 57 (dk_at dksX9_isDigit_0 7 rfl rfl)
theorem dX9_isDigit_9 : decode cX9_isDigit 9 = .ok (.if_icmp .gt 7, 3) := dk_163 0 7 (dk_at dksX9_isDigit_0 9 rfl rfl)
theorem dX9_isDigit_12 : decode cX9_isDigit 12 = .ok (.iconst 1, 1) := dk_4 (dk_at dksX9_isDigit_0 12 rfl rfl)
theorem dX9_isDigit_13 : decode cX9_isDigit 13 = .ok (.goto 4, 3) := dk_167 0 4 (dk_at dksX9_isDigit_0 13 rfl rfl)
theorem dX9_isDigit_16 : decode cX9_isDigit 16 = .ok (.iconst 0, 1) := dk_3 (dk_at dksX9_isDigit_0 16 rfl rfl)
theorem dX9_isDigit_17 : decode cX9_isDigit 17 = .ok (.ireturn, 1) := dk_172 (dk_at dksX9_isDigit_0 17 rfl rfl)
abbrev cX9_isSign : ByteArray := prog_10_method_5_code
def yX9_isSign : MethodName := ⟨RX9, "isSign", "(I)Z"⟩
def dkwX9_isSign_2 : List UInt8 := [26, 16, 61, 160, 0, 7, 4, 167, 0, 4, 3, 172]
abbrev dktX9_isSign_2 : List UInt8 := dkwX9_isSign_2 ++ []
def dkwX9_isSign_1 : List UInt8 := [26, 16, 45, 159, 0, 27, 26, 16, 42, 159, 0, 21, 26, 16, 47, 159, 0, 15, 26, 16, 60, 159, 0, 9]
abbrev dktX9_isSign_1 : List UInt8 := dkwX9_isSign_1 ++ dktX9_isSign_2
def dkwX9_isSign_0 : List UInt8 := [26, 16, 59, 159, 0, 51, 26, 16, 40, 159, 0, 45, 26, 16, 41, 159, 0, 39, 26, 16, 43, 159, 0, 33]
abbrev dktX9_isSign_0 : List UInt8 := dkwX9_isSign_0 ++ dktX9_isSign_1
theorem dksX9_isSign_0 : cX9_isSign.data.toList.drop 0 = dktX9_isSign_0 := by decide +kernel
theorem dksX9_isSign_1 : cX9_isSign.data.toList.drop 24 = dktX9_isSign_1 := dk_seg dksX9_isSign_0 24 rfl rfl
theorem dksX9_isSign_2 : cX9_isSign.data.toList.drop 48 = dktX9_isSign_2 := dk_seg dksX9_isSign_1 24 rfl rfl
theorem dX9_isSign_0 : decode cX9_isSign 0 = .ok (.iload_n 0, 1) := dk_26 (dk_at dksX9_isSign_0 0 rfl rfl)
theorem dX9_isSign_1 : decode cX9_isSign 1 = .ok (.bipush 59, 2) := dk_16 59 (dk_at dksX9_isSign_0 1 rfl rfl)
theorem dX9_isSign_3 : decode cX9_isSign 3 = .ok (.if_icmp .eq 51, 3) := dk_159 0 51 (dk_at dksX9_isSign_0 3 rfl rfl)
theorem dX9_isSign_6 : decode cX9_isSign 6 = .ok (.iload_n 0, 1) := dk_26 (dk_at dksX9_isSign_0 6 rfl rfl)
theorem dX9_isSign_7 : decode cX9_isSign 7 = .ok (.bipush 40, 2) := dk_16 40 (dk_at dksX9_isSign_0 7 rfl rfl)
theorem dX9_isSign_9 : decode cX9_isSign 9 = .ok (.if_icmp .eq 45, 3) := dk_159 0 45 (dk_at dksX9_isSign_0 9 rfl rfl)
theorem dX9_isSign_12 : decode cX9_isSign 12 = .ok (.iload_n 0, 1) := dk_26 (dk_at dksX9_isSign_0 12 rfl rfl)
theorem dX9_isSign_13 : decode cX9_isSign 13 = .ok (.bipush 41, 2) := dk_16 41 (dk_at dksX9_isSign_0 13 rfl rfl)
theorem dX9_isSign_15 : decode cX9_isSign 15 = .ok (.if_icmp .eq 39, 3) := dk_159 0 39 (dk_at dksX9_isSign_0 15 rfl rfl)
theorem dX9_isSign_18 : decode cX9_isSign 18 = .ok (.iload_n 0, 1) := dk_26 (dk_at dksX9_isSign_0 18 rfl rfl)
theorem dX9_isSign_19 : decode cX9_isSign 19 = .ok (.bipush 43, 2) := dk_16 43 (dk_at dksX9_isSign_0 19 rfl rfl)
theorem dX9_isSign_21 : decode cX9_isSign 21 = .ok (.if_icmp .eq 33, 3) := dk_159 0 33 (dk_at dksX9_isSign_0 21 rfl rfl)
theorem dX9_isSign_24 : decode cX9_isSign 24 = .ok (.iload_n 0, 1) := dk_26 (dk_at dksX9_isSign_1 0 rfl rfl)
theorem dX9_isSign_25 : decode cX9_isSign 25 = .ok (.bipush 45, 2) := dk_16 45 (dk_at dksX9_isSign_1 1 rfl rfl)
theorem dX9_isSign_27 : decode cX9_isSign 27 = .ok (.if_icmp .eq 27, 3) := dk_159 0 27 (dk_at dksX9_isSign_1 3 rfl rfl)
theorem dX9_isSign_30 : decode cX9_isSign 30 = .ok (.iload_n 0, 1) := dk_26 (dk_at dksX9_isSign_1 6 rfl rfl)
theorem dX9_isSign_31 : decode cX9_isSign 31 = .ok (.bipush 42, 2) := dk_16 42 (dk_at dksX9_isSign_1 7 rfl rfl)
theorem dX9_isSign_33 : decode cX9_isSign 33 = .ok (.if_icmp .eq 21, 3) := dk_159 0 21 (dk_at dksX9_isSign_1 9 rfl rfl)
theorem dX9_isSign_36 : decode cX9_isSign 36 = .ok (.iload_n 0, 1) := dk_26 (dk_at dksX9_isSign_1 12 rfl rfl)
theorem dX9_isSign_37 : decode cX9_isSign 37 = .ok (.bipush 47, 2) := dk_16 47 (dk_at dksX9_isSign_1 13 rfl rfl)
theorem dX9_isSign_39 : decode cX9_isSign 39 = .ok (.if_icmp .eq 15, 3) := dk_159 0 15 (dk_at dksX9_isSign_1 15 rfl rfl)
theorem dX9_isSign_42 : decode cX9_isSign 42 = .ok (.iload_n 0, 1) := dk_26 (dk_at dksX9_isSign_1 18 rfl rfl)
theorem dX9_isSign_43 : decode cX9_isSign 43 = .ok (.bipush 60, 2) := dk_16 60 (dk_at dksX9_isSign_1 19 rfl rfl)
theorem dX9_isSign_45 : decode cX9_isSign 45 = .ok (.if_icmp .eq 9, 3) := dk_159 0 9 (dk_at dksX9_isSign_1 21 rfl rfl)
theorem dX9_isSign_48 : decode cX9_isSign 48 = .ok (.iload_n 0, 1) := dk_26 (dk_at dksX9_isSign_2 0 rfl rfl)
theorem dX9_isSign_49 : decode cX9_isSign 49 = .ok (.bipush 61, 2) := dk_16 61 (dk_at dksX9_isSign_2 1 rfl rfl)
theorem dX9_isSign_51 : decode cX9_isSign 51 = .ok (.if_icmp .ne 7, 3) := dk_160 0 7 (dk_at dksX9_isSign_2 3 rfl rfl)
theorem dX9_isSign_54 : decode cX9_isSign 54 = .ok (.iconst 1, 1) := dk_4 (dk_at dksX9_isSign_2 6 rfl rfl)
theorem dX9_isSign_55 : decode cX9_isSign 55 = .ok (.goto 4, 3) := dk_167 0 4 (dk_at dksX9_isSign_2 7 rfl rfl)
theorem dX9_isSign_58 : decode cX9_isSign 58 = .ok (.iconst 0, 1) := dk_3 (dk_at dksX9_isSign_2 10 rfl rfl)
theorem dX9_isSign_59 : decode cX9_isSign 59 = .ok (.ireturn, 1) := dk_172 (dk_at dksX9_isSign_2 11 rfl rfl)
abbrev cX9_land : ByteArray := prog_10_method_13_code
def yX9_land : MethodName := ⟨RX9, "land", "()LApartBench$Land;"⟩
def dkwX9_land_12 : List UInt8 := [182, 0, 184, 42, 18, 186, 182, 0, 188, 167, 254, 231, 43, 182, 0, 192, 43, 176]
abbrev dktX9_land_12 : List UInt8 := dkwX9_land_12 ++ []
def dkwX9_land_11 : List UInt8 := [42, 43, 180, 0, 181, 182, 0, 168, 8, 162, 0, 7, 4, 167, 0, 4, 3, 5, 182, 0, 116, 42, 43]
abbrev dktX9_land_11 : List UInt8 := dkwX9_land_11 ++ dktX9_land_12
def dkwX9_land_10 : List UInt8 := [182, 0, 112, 154, 0, 12, 42, 18, 179, 182, 0, 112, 153, 0, 7, 4, 167, 0, 4, 3, 4, 182, 0, 116]
abbrev dktX9_land_10 : List UInt8 := dkwX9_land_10 ++ dktX9_land_11
def dkwX9_land_9 : List UInt8 := [182, 0, 29, 42, 43, 182, 0, 172, 167, 0, 66, 42, 42, 18, 175, 182, 0, 112, 154, 0, 21, 42, 18, 177]
abbrev dktX9_land_9 : List UInt8 := dkwX9_land_9 ++ dktX9_land_10
def dkwX9_land_8 : List UInt8 := [42, 43, 180, 0, 164, 182, 0, 168, 16, 6, 162, 0, 7, 4, 167, 0, 4, 3, 5, 182, 0, 116, 42]
abbrev dktX9_land_8 : List UInt8 := dkwX9_land_8 ++ dktX9_land_9
def dkwX9_land_7 : List UInt8 := [153, 0, 15, 43, 42, 3, 182, 0, 155, 181, 0, 159, 167, 0, 109, 42, 18, 162, 182, 0, 112, 153, 0, 37]
abbrev dktX9_land_7 : List UInt8 := dkwX9_land_7 ++ dktX9_land_8
def dkwX9_land_6 : List UInt8 := [153, 0, 17, 43, 42, 4, 16, 40, 182, 0, 147, 181, 0, 151, 167, 0, 131, 42, 18, 153, 4, 182, 0, 143]
abbrev dktX9_land_6 : List UInt8 := dkwX9_land_6 ++ dktX9_land_7
def dkwX9_land_5 : List UInt8 := [182, 0, 116, 42, 182, 0, 29, 42, 43, 182, 0, 138, 167, 0, 155, 42, 18, 141, 3, 182, 0, 143]
abbrev dktX9_land_5 : List UInt8 := dkwX9_land_5 ++ dktX9_land_6
def dkwX9_land_4 : List UInt8 := [182, 0, 112, 153, 0, 34, 42, 43, 180, 0, 135, 16, 14, 162, 0, 7, 4, 167, 0, 4, 3, 5]
abbrev dktX9_land_4 : List UInt8 := dkwX9_land_4 ++ dktX9_land_5
def dkwX9_land_3 : List UInt8 := [181, 0, 130, 42, 182, 0, 29, 43, 89, 180, 0, 125, 4, 96, 181, 0, 125, 167, 0, 195, 42, 18, 133]
abbrev dktX9_land_3 : List UInt8 := dkwX9_land_3 ++ dktX9_land_4
def dkwX9_land_2 : List UInt8 := [182, 0, 29, 42, 18, 128, 182, 0, 112, 153, 0, 22, 43, 89, 180, 0, 130, 4, 43, 180, 0, 125, 120, 128]
abbrev dktX9_land_2 : List UInt8 := dkwX9_land_2 ++ dktX9_land_3
def dkwX9_land_1 : List UInt8 := [153, 0, 67, 42, 43, 180, 0, 125, 16, 9, 162, 0, 7, 4, 167, 0, 4, 3, 5, 182, 0, 116, 42]
abbrev dktX9_land_1 : List UInt8 := dkwX9_land_1 ++ dktX9_land_2
def dkwX9_land_0 : List UInt8 := [187, 0, 120, 89, 183, 0, 122, 76, 42, 180, 0, 52, 178, 0, 46, 165, 1, 21, 42, 18, 123, 182, 0, 112]
abbrev dktX9_land_0 : List UInt8 := dkwX9_land_0 ++ dktX9_land_1
theorem dksX9_land_0 : cX9_land.data.toList.drop 0 = dktX9_land_0 := by decide +kernel
theorem dksX9_land_1 : cX9_land.data.toList.drop 24 = dktX9_land_1 := dk_seg dksX9_land_0 24 rfl rfl
theorem dksX9_land_2 : cX9_land.data.toList.drop 47 = dktX9_land_2 := dk_seg dksX9_land_1 23 rfl rfl
theorem dksX9_land_3 : cX9_land.data.toList.drop 71 = dktX9_land_3 := dk_seg dksX9_land_2 24 rfl rfl
theorem dksX9_land_4 : cX9_land.data.toList.drop 94 = dktX9_land_4 := dk_seg dksX9_land_3 23 rfl rfl
theorem dksX9_land_5 : cX9_land.data.toList.drop 116 = dktX9_land_5 := dk_seg dksX9_land_4 22 rfl rfl
theorem dksX9_land_6 : cX9_land.data.toList.drop 138 = dktX9_land_6 := dk_seg dksX9_land_5 22 rfl rfl
theorem dksX9_land_7 : cX9_land.data.toList.drop 162 = dktX9_land_7 := dk_seg dksX9_land_6 24 rfl rfl
theorem dksX9_land_8 : cX9_land.data.toList.drop 186 = dktX9_land_8 := dk_seg dksX9_land_7 24 rfl rfl
theorem dksX9_land_9 : cX9_land.data.toList.drop 209 = dktX9_land_9 := dk_seg dksX9_land_8 23 rfl rfl
theorem dksX9_land_10 : cX9_land.data.toList.drop 233 = dktX9_land_10 := dk_seg dksX9_land_9 24 rfl rfl
theorem dksX9_land_11 : cX9_land.data.toList.drop 257 = dktX9_land_11 := dk_seg dksX9_land_10 24 rfl rfl
theorem dksX9_land_12 : cX9_land.data.toList.drop 280 = dktX9_land_12 := dk_seg dksX9_land_11 23 rfl rfl
theorem dX9_land_0 : decode cX9_land 0 = .ok (.new 120, 3) := dk_187 0 120 (dk_at dksX9_land_0 0 rfl rfl)
theorem dX9_land_3 : decode cX9_land 3 = .ok (.dup, 1) := dk_89 (dk_at dksX9_land_0 3 rfl rfl)
theorem dX9_land_4 : decode cX9_land 4 = .ok (.invokespecial 122, 3) := dk_183 0 122 (dk_at dksX9_land_0 4 rfl rfl)
theorem dX9_land_7 : decode cX9_land 7 = .ok (.astore_n 1, 1) := dk_76 (dk_at dksX9_land_0 7 rfl rfl)
theorem dX9_land_8 : decode cX9_land 8 = .ok (.aload_n 0, 1) := dk_42 (dk_at dksX9_land_0 8 rfl rfl)
theorem dX9_land_9 : decode cX9_land 9 = .ok (.getfield 52, 3) := dk_180 0 52 (dk_at dksX9_land_0 9 rfl rfl)
theorem dX9_land_12 : decode cX9_land 12 = .ok (.getstatic 46, 3) := dk_178 0 46 (dk_at dksX9_land_0 12 rfl rfl)
theorem dX9_land_15 : decode cX9_land 15 = .ok (.if_acmp .eq 277, 3) := dk_165 1 21 (dk_at dksX9_land_0 15 rfl rfl)
theorem dX9_land_18 : decode cX9_land 18 = .ok (.aload_n 0, 1) := dk_42 (dk_at dksX9_land_0 18 rfl rfl)
theorem dX9_land_19 : decode cX9_land 19 = .ok (.ldc 123, 2) := dk_18 123 (dk_at dksX9_land_0 19 rfl rfl)
theorem dX9_land_21 : decode cX9_land 21 = .ok (.invokevirtual 112, 3) := dk_182 0 112 (dk_at dksX9_land_0 21 rfl rfl)
theorem dX9_land_24 : decode cX9_land 24 = .ok (.ifCond .eq 67, 3) := dk_153 0 67 (dk_at dksX9_land_1 0 rfl rfl)
theorem dX9_land_27 : decode cX9_land 27 = .ok (.aload_n 0, 1) := dk_42 (dk_at dksX9_land_1 3 rfl rfl)
theorem dX9_land_28 : decode cX9_land 28 = .ok (.aload_n 1, 1) := dk_43 (dk_at dksX9_land_1 4 rfl rfl)
theorem dX9_land_29 : decode cX9_land 29 = .ok (.getfield 125, 3) := dk_180 0 125 (dk_at dksX9_land_1 5 rfl rfl)
theorem dX9_land_32 : decode cX9_land 32 = .ok (.bipush 9, 2) := dk_16 9 (dk_at dksX9_land_1 8 rfl rfl)
theorem dX9_land_34 : decode cX9_land 34 = .ok (.if_icmp .ge 7, 3) := dk_162 0 7 (dk_at dksX9_land_1 10 rfl rfl)
theorem dX9_land_37 : decode cX9_land 37 = .ok (.iconst 1, 1) := dk_4 (dk_at dksX9_land_1 13 rfl rfl)
theorem dX9_land_38 : decode cX9_land 38 = .ok (.goto 4, 3) := dk_167 0 4 (dk_at dksX9_land_1 14 rfl rfl)
theorem dX9_land_41 : decode cX9_land 41 = .ok (.iconst 0, 1) := dk_3 (dk_at dksX9_land_1 17 rfl rfl)
theorem dX9_land_42 : decode cX9_land 42 = .ok (.iconst 2, 1) := dk_5 (dk_at dksX9_land_1 18 rfl rfl)
theorem dX9_land_43 : decode cX9_land 43 = .ok (.invokevirtual 116, 3) := dk_182 0 116 (dk_at dksX9_land_1 19 rfl rfl)
theorem dX9_land_46 : decode cX9_land 46 = .ok (.aload_n 0, 1) := dk_42 (dk_at dksX9_land_1 22 rfl rfl)
theorem dX9_land_47 : decode cX9_land 47 = .ok (.invokevirtual 29, 3) := dk_182 0 29 (dk_at dksX9_land_2 0 rfl rfl)
theorem dX9_land_50 : decode cX9_land 50 = .ok (.aload_n 0, 1) := dk_42 (dk_at dksX9_land_2 3 rfl rfl)
theorem dX9_land_51 : decode cX9_land 51 = .ok (.ldc 128, 2) := dk_18 128 (dk_at dksX9_land_2 4 rfl rfl)
theorem dX9_land_53 : decode cX9_land 53 = .ok (.invokevirtual 112, 3) := dk_182 0 112 (dk_at dksX9_land_2 6 rfl rfl)
theorem dX9_land_56 : decode cX9_land 56 = .ok (.ifCond .eq 22, 3) := dk_153 0 22 (dk_at dksX9_land_2 9 rfl rfl)
theorem dX9_land_59 : decode cX9_land 59 = .ok (.aload_n 1, 1) := dk_43 (dk_at dksX9_land_2 12 rfl rfl)
theorem dX9_land_60 : decode cX9_land 60 = .ok (.dup, 1) := dk_89 (dk_at dksX9_land_2 13 rfl rfl)
theorem dX9_land_61 : decode cX9_land 61 = .ok (.getfield 130, 3) := dk_180 0 130 (dk_at dksX9_land_2 14 rfl rfl)
theorem dX9_land_64 : decode cX9_land 64 = .ok (.iconst 1, 1) := dk_4 (dk_at dksX9_land_2 17 rfl rfl)
theorem dX9_land_65 : decode cX9_land 65 = .ok (.aload_n 1, 1) := dk_43 (dk_at dksX9_land_2 18 rfl rfl)
theorem dX9_land_66 : decode cX9_land 66 = .ok (.getfield 125, 3) := dk_180 0 125 (dk_at dksX9_land_2 19 rfl rfl)
theorem dX9_land_69 : decode cX9_land 69 = .ok (.ishl, 1) := dk_120 (dk_at dksX9_land_2 22 rfl rfl)
theorem dX9_land_70 : decode cX9_land 70 = .ok (.ior, 1) := dk_128 (dk_at dksX9_land_2 23 rfl rfl)
theorem dX9_land_71 : decode cX9_land 71 = .ok (.putfield 130, 3) := dk_181 0 130 (dk_at dksX9_land_3 0 rfl rfl)
theorem dX9_land_74 : decode cX9_land 74 = .ok (.aload_n 0, 1) := dk_42 (dk_at dksX9_land_3 3 rfl rfl)
theorem dX9_land_75 : decode cX9_land 75 = .ok (.invokevirtual 29, 3) := dk_182 0 29 (dk_at dksX9_land_3 4 rfl rfl)
theorem dX9_land_78 : decode cX9_land 78 = .ok (.aload_n 1, 1) := dk_43 (dk_at dksX9_land_3 7 rfl rfl)
theorem dX9_land_79 : decode cX9_land 79 = .ok (.dup, 1) := dk_89 (dk_at dksX9_land_3 8 rfl rfl)
theorem dX9_land_80 : decode cX9_land 80 = .ok (.getfield 125, 3) := dk_180 0 125 (dk_at dksX9_land_3 9 rfl rfl)
theorem dX9_land_83 : decode cX9_land 83 = .ok (.iconst 1, 1) := dk_4 (dk_at dksX9_land_3 12 rfl rfl)
theorem dX9_land_84 : decode cX9_land 84 = .ok (.iadd, 1) := dk_96 (dk_at dksX9_land_3 13 rfl rfl)
theorem dX9_land_85 : decode cX9_land 85 = .ok (.putfield 125, 3) := dk_181 0 125 (dk_at dksX9_land_3 14 rfl rfl)
theorem dX9_land_88 : decode cX9_land 88 = .ok (.goto 195, 3) := dk_167 0 195 (dk_at dksX9_land_3 17 rfl rfl)
theorem dX9_land_91 : decode cX9_land 91 = .ok (.aload_n 0, 1) := dk_42 (dk_at dksX9_land_3 20 rfl rfl)
theorem dX9_land_92 : decode cX9_land 92 = .ok (.ldc 133, 2) := dk_18 133 (dk_at dksX9_land_3 21 rfl rfl)
theorem dX9_land_94 : decode cX9_land 94 = .ok (.invokevirtual 112, 3) := dk_182 0 112 (dk_at dksX9_land_4 0 rfl rfl)
theorem dX9_land_97 : decode cX9_land 97 = .ok (.ifCond .eq 34, 3) := dk_153 0 34 (dk_at dksX9_land_4 3 rfl rfl)
theorem dX9_land_100 : decode cX9_land 100 = .ok (.aload_n 0, 1) := dk_42 (dk_at dksX9_land_4 6 rfl rfl)
theorem dX9_land_101 : decode cX9_land 101 = .ok (.aload_n 1, 1) := dk_43 (dk_at dksX9_land_4 7 rfl rfl)
theorem dX9_land_102 : decode cX9_land 102 = .ok (.getfield 135, 3) := dk_180 0 135 (dk_at dksX9_land_4 8 rfl rfl)
theorem dX9_land_105 : decode cX9_land 105 = .ok (.bipush 14, 2) := dk_16 14 (dk_at dksX9_land_4 11 rfl rfl)
theorem dX9_land_107 : decode cX9_land 107 = .ok (.if_icmp .ge 7, 3) := dk_162 0 7 (dk_at dksX9_land_4 13 rfl rfl)
theorem dX9_land_110 : decode cX9_land 110 = .ok (.iconst 1, 1) := dk_4 (dk_at dksX9_land_4 16 rfl rfl)
theorem dX9_land_111 : decode cX9_land 111 = .ok (.goto 4, 3) := dk_167 0 4 (dk_at dksX9_land_4 17 rfl rfl)
theorem dX9_land_114 : decode cX9_land 114 = .ok (.iconst 0, 1) := dk_3 (dk_at dksX9_land_4 20 rfl rfl)
theorem dX9_land_115 : decode cX9_land 115 = .ok (.iconst 2, 1) := dk_5 (dk_at dksX9_land_4 21 rfl rfl)
theorem dX9_land_116 : decode cX9_land 116 = .ok (.invokevirtual 116, 3) := dk_182 0 116 (dk_at dksX9_land_5 0 rfl rfl)
theorem dX9_land_119 : decode cX9_land 119 = .ok (.aload_n 0, 1) := dk_42 (dk_at dksX9_land_5 3 rfl rfl)
theorem dX9_land_120 : decode cX9_land 120 = .ok (.invokevirtual 29, 3) := dk_182 0 29 (dk_at dksX9_land_5 4 rfl rfl)
theorem dX9_land_123 : decode cX9_land 123 = .ok (.aload_n 0, 1) := dk_42 (dk_at dksX9_land_5 7 rfl rfl)
theorem dX9_land_124 : decode cX9_land 124 = .ok (.aload_n 1, 1) := dk_43 (dk_at dksX9_land_5 8 rfl rfl)
theorem dX9_land_125 : decode cX9_land 125 = .ok (.invokevirtual 138, 3) := dk_182 0 138 (dk_at dksX9_land_5 9 rfl rfl)
theorem dX9_land_128 : decode cX9_land 128 = .ok (.goto 155, 3) := dk_167 0 155 (dk_at dksX9_land_5 12 rfl rfl)
theorem dX9_land_131 : decode cX9_land 131 = .ok (.aload_n 0, 1) := dk_42 (dk_at dksX9_land_5 15 rfl rfl)
theorem dX9_land_132 : decode cX9_land 132 = .ok (.ldc 141, 2) := dk_18 141 (dk_at dksX9_land_5 16 rfl rfl)
theorem dX9_land_134 : decode cX9_land 134 = .ok (.iconst 0, 1) := dk_3 (dk_at dksX9_land_5 18 rfl rfl)
theorem dX9_land_135 : decode cX9_land 135 = .ok (.invokevirtual 143, 3) := dk_182 0 143 (dk_at dksX9_land_5 19 rfl rfl)
theorem dX9_land_138 : decode cX9_land 138 = .ok (.ifCond .eq 17, 3) := dk_153 0 17 (dk_at dksX9_land_6 0 rfl rfl)
theorem dX9_land_141 : decode cX9_land 141 = .ok (.aload_n 1, 1) := dk_43 (dk_at dksX9_land_6 3 rfl rfl)
theorem dX9_land_142 : decode cX9_land 142 = .ok (.aload_n 0, 1) := dk_42 (dk_at dksX9_land_6 4 rfl rfl)
theorem dX9_land_143 : decode cX9_land 143 = .ok (.iconst 1, 1) := dk_4 (dk_at dksX9_land_6 5 rfl rfl)
theorem dX9_land_144 : decode cX9_land 144 = .ok (.bipush 40, 2) := dk_16 40 (dk_at dksX9_land_6 6 rfl rfl)
theorem dX9_land_146 : decode cX9_land 146 = .ok (.invokevirtual 147, 3) := dk_182 0 147 (dk_at dksX9_land_6 8 rfl rfl)
theorem dX9_land_149 : decode cX9_land 149 = .ok (.putfield 151, 3) := dk_181 0 151 (dk_at dksX9_land_6 11 rfl rfl)
theorem dX9_land_152 : decode cX9_land 152 = .ok (.goto 131, 3) := dk_167 0 131 (dk_at dksX9_land_6 14 rfl rfl)
theorem dX9_land_155 : decode cX9_land 155 = .ok (.aload_n 0, 1) := dk_42 (dk_at dksX9_land_6 17 rfl rfl)
theorem dX9_land_156 : decode cX9_land 156 = .ok (.ldc 153, 2) := dk_18 153 (dk_at dksX9_land_6 18 rfl rfl)
theorem dX9_land_158 : decode cX9_land 158 = .ok (.iconst 1, 1) := dk_4 (dk_at dksX9_land_6 20 rfl rfl)
theorem dX9_land_159 : decode cX9_land 159 = .ok (.invokevirtual 143, 3) := dk_182 0 143 (dk_at dksX9_land_6 21 rfl rfl)
theorem dX9_land_162 : decode cX9_land 162 = .ok (.ifCond .eq 15, 3) := dk_153 0 15 (dk_at dksX9_land_7 0 rfl rfl)
theorem dX9_land_165 : decode cX9_land 165 = .ok (.aload_n 1, 1) := dk_43 (dk_at dksX9_land_7 3 rfl rfl)
theorem dX9_land_166 : decode cX9_land 166 = .ok (.aload_n 0, 1) := dk_42 (dk_at dksX9_land_7 4 rfl rfl)
theorem dX9_land_167 : decode cX9_land 167 = .ok (.iconst 0, 1) := dk_3 (dk_at dksX9_land_7 5 rfl rfl)
theorem dX9_land_168 : decode cX9_land 168 = .ok (.invokevirtual 155, 3) := dk_182 0 155 (dk_at dksX9_land_7 6 rfl rfl)
theorem dX9_land_171 : decode cX9_land 171 = .ok (.putfield 159, 3) := dk_181 0 159 (dk_at dksX9_land_7 9 rfl rfl)
theorem dX9_land_174 : decode cX9_land 174 = .ok (.goto 109, 3) := dk_167 0 109 (dk_at dksX9_land_7 12 rfl rfl)
theorem dX9_land_177 : decode cX9_land 177 = .ok (.aload_n 0, 1) := dk_42 (dk_at dksX9_land_7 15 rfl rfl)
theorem dX9_land_178 : decode cX9_land 178 = .ok (.ldc 162, 2) := dk_18 162 (dk_at dksX9_land_7 16 rfl rfl)
theorem dX9_land_180 : decode cX9_land 180 = .ok (.invokevirtual 112, 3) := dk_182 0 112 (dk_at dksX9_land_7 18 rfl rfl)
theorem dX9_land_183 : decode cX9_land 183 = .ok (.ifCond .eq 37, 3) := dk_153 0 37 (dk_at dksX9_land_7 21 rfl rfl)
theorem dX9_land_186 : decode cX9_land 186 = .ok (.aload_n 0, 1) := dk_42 (dk_at dksX9_land_8 0 rfl rfl)
theorem dX9_land_187 : decode cX9_land 187 = .ok (.aload_n 1, 1) := dk_43 (dk_at dksX9_land_8 1 rfl rfl)
theorem dX9_land_188 : decode cX9_land 188 = .ok (.getfield 164, 3) := dk_180 0 164 (dk_at dksX9_land_8 2 rfl rfl)
theorem dX9_land_191 : decode cX9_land 191 = .ok (.invokevirtual 168, 3) := dk_182 0 168 (dk_at dksX9_land_8 5 rfl rfl)
theorem dX9_land_194 : decode cX9_land 194 = .ok (.bipush 6, 2) := dk_16 6 (dk_at dksX9_land_8 8 rfl rfl)
theorem dX9_land_196 : decode cX9_land 196 = .ok (.if_icmp .ge 7, 3) := dk_162 0 7 (dk_at dksX9_land_8 10 rfl rfl)
theorem dX9_land_199 : decode cX9_land 199 = .ok (.iconst 1, 1) := dk_4 (dk_at dksX9_land_8 13 rfl rfl)
theorem dX9_land_200 : decode cX9_land 200 = .ok (.goto 4, 3) := dk_167 0 4 (dk_at dksX9_land_8 14 rfl rfl)
theorem dX9_land_203 : decode cX9_land 203 = .ok (.iconst 0, 1) := dk_3 (dk_at dksX9_land_8 17 rfl rfl)
theorem dX9_land_204 : decode cX9_land 204 = .ok (.iconst 2, 1) := dk_5 (dk_at dksX9_land_8 18 rfl rfl)
theorem dX9_land_205 : decode cX9_land 205 = .ok (.invokevirtual 116, 3) := dk_182 0 116 (dk_at dksX9_land_8 19 rfl rfl)
theorem dX9_land_208 : decode cX9_land 208 = .ok (.aload_n 0, 1) := dk_42 (dk_at dksX9_land_8 22 rfl rfl)
theorem dX9_land_209 : decode cX9_land 209 = .ok (.invokevirtual 29, 3) := dk_182 0 29 (dk_at dksX9_land_9 0 rfl rfl)
theorem dX9_land_212 : decode cX9_land 212 = .ok (.aload_n 0, 1) := dk_42 (dk_at dksX9_land_9 3 rfl rfl)
theorem dX9_land_213 : decode cX9_land 213 = .ok (.aload_n 1, 1) := dk_43 (dk_at dksX9_land_9 4 rfl rfl)
theorem dX9_land_214 : decode cX9_land 214 = .ok (.invokevirtual 172, 3) := dk_182 0 172 (dk_at dksX9_land_9 5 rfl rfl)
theorem dX9_land_217 : decode cX9_land 217 = .ok (.goto 66, 3) := dk_167 0 66 (dk_at dksX9_land_9 8 rfl rfl)
theorem dX9_land_220 : decode cX9_land 220 = .ok (.aload_n 0, 1) := dk_42 (dk_at dksX9_land_9 11 rfl rfl)
theorem dX9_land_221 : decode cX9_land 221 = .ok (.aload_n 0, 1) := dk_42 (dk_at dksX9_land_9 12 rfl rfl)
theorem dX9_land_222 : decode cX9_land 222 = .ok (.ldc 175, 2) := dk_18 175 (dk_at dksX9_land_9 13 rfl rfl)
theorem dX9_land_224 : decode cX9_land 224 = .ok (.invokevirtual 112, 3) := dk_182 0 112 (dk_at dksX9_land_9 15 rfl rfl)
theorem dX9_land_227 : decode cX9_land 227 = .ok (.ifCond .ne 21, 3) := dk_154 0 21 (dk_at dksX9_land_9 18 rfl rfl)
theorem dX9_land_230 : decode cX9_land 230 = .ok (.aload_n 0, 1) := dk_42 (dk_at dksX9_land_9 21 rfl rfl)
theorem dX9_land_231 : decode cX9_land 231 = .ok (.ldc 177, 2) := dk_18 177 (dk_at dksX9_land_9 22 rfl rfl)
theorem dX9_land_233 : decode cX9_land 233 = .ok (.invokevirtual 112, 3) := dk_182 0 112 (dk_at dksX9_land_10 0 rfl rfl)
theorem dX9_land_236 : decode cX9_land 236 = .ok (.ifCond .ne 12, 3) := dk_154 0 12 (dk_at dksX9_land_10 3 rfl rfl)
theorem dX9_land_239 : decode cX9_land 239 = .ok (.aload_n 0, 1) := dk_42 (dk_at dksX9_land_10 6 rfl rfl)
theorem dX9_land_240 : decode cX9_land 240 = .ok (.ldc 179, 2) := dk_18 179 (dk_at dksX9_land_10 7 rfl rfl)
theorem dX9_land_242 : decode cX9_land 242 = .ok (.invokevirtual 112, 3) := dk_182 0 112 (dk_at dksX9_land_10 9 rfl rfl)
theorem dX9_land_245 : decode cX9_land 245 = .ok (.ifCond .eq 7, 3) := dk_153 0 7 (dk_at dksX9_land_10 12 rfl rfl)
theorem dX9_land_248 : decode cX9_land 248 = .ok (.iconst 1, 1) := dk_4 (dk_at dksX9_land_10 15 rfl rfl)
theorem dX9_land_249 : decode cX9_land 249 = .ok (.goto 4, 3) := dk_167 0 4 (dk_at dksX9_land_10 16 rfl rfl)
theorem dX9_land_252 : decode cX9_land 252 = .ok (.iconst 0, 1) := dk_3 (dk_at dksX9_land_10 19 rfl rfl)
theorem dX9_land_253 : decode cX9_land 253 = .ok (.iconst 1, 1) := dk_4 (dk_at dksX9_land_10 20 rfl rfl)
theorem dX9_land_254 : decode cX9_land 254 = .ok (.invokevirtual 116, 3) := dk_182 0 116 (dk_at dksX9_land_10 21 rfl rfl)
theorem dX9_land_257 : decode cX9_land 257 = .ok (.aload_n 0, 1) := dk_42 (dk_at dksX9_land_11 0 rfl rfl)
theorem dX9_land_258 : decode cX9_land 258 = .ok (.aload_n 1, 1) := dk_43 (dk_at dksX9_land_11 1 rfl rfl)
theorem dX9_land_259 : decode cX9_land 259 = .ok (.getfield 181, 3) := dk_180 0 181 (dk_at dksX9_land_11 2 rfl rfl)
theorem dX9_land_262 : decode cX9_land 262 = .ok (.invokevirtual 168, 3) := dk_182 0 168 (dk_at dksX9_land_11 5 rfl rfl)
theorem dX9_land_265 : decode cX9_land 265 = .ok (.iconst 5, 1) := dk_8 (dk_at dksX9_land_11 8 rfl rfl)
theorem dX9_land_266 : decode cX9_land 266 = .ok (.if_icmp .ge 7, 3) := dk_162 0 7 (dk_at dksX9_land_11 9 rfl rfl)
theorem dX9_land_269 : decode cX9_land 269 = .ok (.iconst 1, 1) := dk_4 (dk_at dksX9_land_11 12 rfl rfl)
theorem dX9_land_270 : decode cX9_land 270 = .ok (.goto 4, 3) := dk_167 0 4 (dk_at dksX9_land_11 13 rfl rfl)
theorem dX9_land_273 : decode cX9_land 273 = .ok (.iconst 0, 1) := dk_3 (dk_at dksX9_land_11 16 rfl rfl)
theorem dX9_land_274 : decode cX9_land 274 = .ok (.iconst 2, 1) := dk_5 (dk_at dksX9_land_11 17 rfl rfl)
theorem dX9_land_275 : decode cX9_land 275 = .ok (.invokevirtual 116, 3) := dk_182 0 116 (dk_at dksX9_land_11 18 rfl rfl)
theorem dX9_land_278 : decode cX9_land 278 = .ok (.aload_n 0, 1) := dk_42 (dk_at dksX9_land_11 21 rfl rfl)
theorem dX9_land_279 : decode cX9_land 279 = .ok (.aload_n 1, 1) := dk_43 (dk_at dksX9_land_11 22 rfl rfl)
theorem dX9_land_280 : decode cX9_land 280 = .ok (.invokevirtual 184, 3) := dk_182 0 184 (dk_at dksX9_land_12 0 rfl rfl)
theorem dX9_land_283 : decode cX9_land 283 = .ok (.aload_n 0, 1) := dk_42 (dk_at dksX9_land_12 3 rfl rfl)
theorem dX9_land_284 : decode cX9_land 284 = .ok (.ldc 186, 2) := dk_18 186 (dk_at dksX9_land_12 4 rfl rfl)
theorem dX9_land_286 : decode cX9_land 286 = .ok (.invokevirtual 188, 3) := dk_182 0 188 (dk_at dksX9_land_12 6 rfl rfl)
theorem dX9_land_289 : decode cX9_land 289 = .ok (.goto (-281), 3) := dk_167 254 231 (dk_at dksX9_land_12 9 rfl rfl)
theorem dX9_land_292 : decode cX9_land 292 = .ok (.aload_n 1, 1) := dk_43 (dk_at dksX9_land_12 12 rfl rfl)
theorem dX9_land_293 : decode cX9_land 293 = .ok (.invokevirtual 192, 3) := dk_182 0 192 (dk_at dksX9_land_12 13 rfl rfl)
theorem dX9_land_296 : decode cX9_land 296 = .ok (.aload_n 1, 1) := dk_43 (dk_at dksX9_land_12 16 rfl rfl)
theorem dX9_land_297 : decode cX9_land 297 = .ok (.areturn, 1) := dk_176 (dk_at dksX9_land_12 17 rfl rfl)
abbrev cX9_is : ByteArray := prog_10_method_7_code
def yX9_is : MethodName := ⟨RX9, "is", "(Ljava/lang/String;)Z"⟩
def dkwX9_is_1 : List UInt8 := [43, 182, 0, 103, 153, 0, 7, 4, 167, 0, 4, 3, 172]
abbrev dktX9_is_1 : List UInt8 := dkwX9_is_1 ++ []
def dkwX9_is_0 : List UInt8 := [42, 180, 0, 52, 178, 0, 76, 165, 0, 13, 42, 180, 0, 52, 178, 0, 91, 166, 0, 18, 42, 180, 0, 11]
abbrev dktX9_is_0 : List UInt8 := dkwX9_is_0 ++ dktX9_is_1
theorem dksX9_is_0 : cX9_is.data.toList.drop 0 = dktX9_is_0 := by decide +kernel
theorem dksX9_is_1 : cX9_is.data.toList.drop 24 = dktX9_is_1 := dk_seg dksX9_is_0 24 rfl rfl
theorem dX9_is_0 : decode cX9_is 0 = .ok (.aload_n 0, 1) := dk_42 (dk_at dksX9_is_0 0 rfl rfl)
theorem dX9_is_1 : decode cX9_is 1 = .ok (.getfield 52, 3) := dk_180 0 52 (dk_at dksX9_is_0 1 rfl rfl)
theorem dX9_is_4 : decode cX9_is 4 = .ok (.getstatic 76, 3) := dk_178 0 76 (dk_at dksX9_is_0 4 rfl rfl)
theorem dX9_is_7 : decode cX9_is 7 = .ok (.if_acmp .eq 13, 3) := dk_165 0 13 (dk_at dksX9_is_0 7 rfl rfl)
theorem dX9_is_10 : decode cX9_is 10 = .ok (.aload_n 0, 1) := dk_42 (dk_at dksX9_is_0 10 rfl rfl)
theorem dX9_is_11 : decode cX9_is 11 = .ok (.getfield 52, 3) := dk_180 0 52 (dk_at dksX9_is_0 11 rfl rfl)
theorem dX9_is_14 : decode cX9_is 14 = .ok (.getstatic 91, 3) := dk_178 0 91 (dk_at dksX9_is_0 14 rfl rfl)
theorem dX9_is_17 : decode cX9_is 17 = .ok (.if_acmp .ne 18, 3) := dk_166 0 18 (dk_at dksX9_is_0 17 rfl rfl)
theorem dX9_is_20 : decode cX9_is 20 = .ok (.aload_n 0, 1) := dk_42 (dk_at dksX9_is_0 20 rfl rfl)
theorem dX9_is_21 : decode cX9_is 21 = .ok (.getfield 11, 3) := dk_180 0 11 (dk_at dksX9_is_0 21 rfl rfl)
theorem dX9_is_24 : decode cX9_is 24 = .ok (.aload_n 1, 1) := dk_43 (dk_at dksX9_is_1 0 rfl rfl)
theorem dX9_is_25 : decode cX9_is 25 = .ok (.invokevirtual 103, 3) := dk_182 0 103 (dk_at dksX9_is_1 1 rfl rfl)
theorem dX9_is_28 : decode cX9_is 28 = .ok (.ifCond .eq 7, 3) := dk_153 0 7 (dk_at dksX9_is_1 4 rfl rfl)
theorem dX9_is_31 : decode cX9_is 31 = .ok (.iconst 1, 1) := dk_4 (dk_at dksX9_is_1 7 rfl rfl)
theorem dX9_is_32 : decode cX9_is 32 = .ok (.goto 4, 3) := dk_167 0 4 (dk_at dksX9_is_1 8 rfl rfl)
theorem dX9_is_35 : decode cX9_is 35 = .ok (.iconst 0, 1) := dk_3 (dk_at dksX9_is_1 11 rfl rfl)
theorem dX9_is_36 : decode cX9_is 36 = .ok (.ireturn, 1) := dk_172 (dk_at dksX9_is_1 12 rfl rfl)
abbrev cX9_check : ByteArray := prog_10_method_8_code
def yX9_check : MethodName := ⟨RX9, "check", "(ZI)V"⟩
def dkwX9_check_0 : List UInt8 := [27, 154, 0, 16, 187, 0, 107, 89, 28, 42, 180, 0, 39, 183, 0, 109, 191, 177]
abbrev dktX9_check_0 : List UInt8 := dkwX9_check_0 ++ []
theorem dksX9_check_0 : cX9_check.data.toList.drop 0 = dktX9_check_0 := by decide +kernel
theorem dX9_check_0 : decode cX9_check 0 = .ok (.iload_n 1, 1) := dk_27 (dk_at dksX9_check_0 0 rfl rfl)
theorem dX9_check_1 : decode cX9_check 1 = .ok (.ifCond .ne 16, 3) := dk_154 0 16 (dk_at dksX9_check_0 1 rfl rfl)
theorem dX9_check_4 : decode cX9_check 4 = .ok (.new 107, 3) := dk_187 0 107 (dk_at dksX9_check_0 4 rfl rfl)
theorem dX9_check_7 : decode cX9_check 7 = .ok (.dup, 1) := dk_89 (dk_at dksX9_check_0 7 rfl rfl)
theorem dX9_check_8 : decode cX9_check 8 = .ok (.iload_n 2, 1) := dk_28 (dk_at dksX9_check_0 8 rfl rfl)
theorem dX9_check_9 : decode cX9_check 9 = .ok (.aload_n 0, 1) := dk_42 (dk_at dksX9_check_0 9 rfl rfl)
theorem dX9_check_10 : decode cX9_check 10 = .ok (.getfield 39, 3) := dk_180 0 39 (dk_at dksX9_check_0 10 rfl rfl)
theorem dX9_check_13 : decode cX9_check 13 = .ok (.invokespecial 109, 3) := dk_183 0 109 (dk_at dksX9_check_0 13 rfl rfl)
theorem dX9_check_16 : decode cX9_check 16 = .ok (.athrow, 1) := dk_191 (dk_at dksX9_check_0 16 rfl rfl)
theorem dX9_check_17 : decode cX9_check 17 = .ok (.return_, 1) := dk_177 (dk_at dksX9_check_0 17 rfl rfl)
abbrev cX9_road : ByteArray := prog_10_method_14_code
def yX9_road : MethodName := ⟨RX9, "road", "(LApartBench$Land;)V"⟩
def dkwX9_road_4 : List UInt8 := [89, 180, 0, 135, 4, 96, 181, 0, 135, 177]
abbrev dktX9_road_4 : List UInt8 := dkwX9_road_4 ++ []
def dkwX9_road_3 : List UInt8 := [79, 43, 180, 0, 198, 16, 9, 29, 104, 28, 96, 43, 180, 0, 198, 16, 9, 28, 104, 29, 96, 46, 79, 43]
abbrev dktX9_road_3 : List UInt8 := dkwX9_road_3 ++ dktX9_road_4
def dkwX9_road_2 : List UInt8 := [182, 0, 116, 42, 182, 0, 29, 43, 180, 0, 198, 16, 9, 28, 104, 29, 96, 42, 4, 16, 9, 182, 0, 147]
abbrev dktX9_road_2 : List UInt8 := dkwX9_road_2 ++ dktX9_road_3
def dkwX9_road_1 : List UInt8 := [28, 159, 0, 21, 43, 180, 0, 198, 16, 9, 28, 104, 29, 96, 46, 154, 0, 7, 4, 167, 0, 4, 3, 7]
abbrev dktX9_road_1 : List UInt8 := dkwX9_road_1 ++ dktX9_road_2
def dkwX9_road_0 : List UInt8 := [42, 43, 180, 0, 125, 182, 0, 195, 61, 42, 182, 0, 29, 42, 43, 180, 0, 125, 182, 0, 195, 62, 42, 29]
abbrev dktX9_road_0 : List UInt8 := dkwX9_road_0 ++ dktX9_road_1
theorem dksX9_road_0 : cX9_road.data.toList.drop 0 = dktX9_road_0 := by decide +kernel
theorem dksX9_road_1 : cX9_road.data.toList.drop 24 = dktX9_road_1 := dk_seg dksX9_road_0 24 rfl rfl
theorem dksX9_road_2 : cX9_road.data.toList.drop 48 = dktX9_road_2 := dk_seg dksX9_road_1 24 rfl rfl
theorem dksX9_road_3 : cX9_road.data.toList.drop 72 = dktX9_road_3 := dk_seg dksX9_road_2 24 rfl rfl
theorem dksX9_road_4 : cX9_road.data.toList.drop 96 = dktX9_road_4 := dk_seg dksX9_road_3 24 rfl rfl
theorem dX9_road_0 : decode cX9_road 0 = .ok (.aload_n 0, 1) := dk_42 (dk_at dksX9_road_0 0 rfl rfl)
theorem dX9_road_1 : decode cX9_road 1 = .ok (.aload_n 1, 1) := dk_43 (dk_at dksX9_road_0 1 rfl rfl)
theorem dX9_road_2 : decode cX9_road 2 = .ok (.getfield 125, 3) := dk_180 0 125 (dk_at dksX9_road_0 2 rfl rfl)
theorem dX9_road_5 : decode cX9_road 5 = .ok (.invokevirtual 195, 3) := dk_182 0 195 (dk_at dksX9_road_0 5 rfl rfl)
theorem dX9_road_8 : decode cX9_road 8 = .ok (.istore_n 2, 1) := dk_61 (dk_at dksX9_road_0 8 rfl rfl)
theorem dX9_road_9 : decode cX9_road 9 = .ok (.aload_n 0, 1) := dk_42 (dk_at dksX9_road_0 9 rfl rfl)
theorem dX9_road_10 : decode cX9_road 10 = .ok (.invokevirtual 29, 3) := dk_182 0 29 (dk_at dksX9_road_0 10 rfl rfl)
theorem dX9_road_13 : decode cX9_road 13 = .ok (.aload_n 0, 1) := dk_42 (dk_at dksX9_road_0 13 rfl rfl)
theorem dX9_road_14 : decode cX9_road 14 = .ok (.aload_n 1, 1) := dk_43 (dk_at dksX9_road_0 14 rfl rfl)
theorem dX9_road_15 : decode cX9_road 15 = .ok (.getfield 125, 3) := dk_180 0 125 (dk_at dksX9_road_0 15 rfl rfl)
theorem dX9_road_18 : decode cX9_road 18 = .ok (.invokevirtual 195, 3) := dk_182 0 195 (dk_at dksX9_road_0 18 rfl rfl)
theorem dX9_road_21 : decode cX9_road 21 = .ok (.istore_n 3, 1) := dk_62 (dk_at dksX9_road_0 21 rfl rfl)
theorem dX9_road_22 : decode cX9_road 22 = .ok (.aload_n 0, 1) := dk_42 (dk_at dksX9_road_0 22 rfl rfl)
theorem dX9_road_23 : decode cX9_road 23 = .ok (.iload_n 3, 1) := dk_29 (dk_at dksX9_road_0 23 rfl rfl)
theorem dX9_road_24 : decode cX9_road 24 = .ok (.iload_n 2, 1) := dk_28 (dk_at dksX9_road_1 0 rfl rfl)
theorem dX9_road_25 : decode cX9_road 25 = .ok (.if_icmp .eq 21, 3) := dk_159 0 21 (dk_at dksX9_road_1 1 rfl rfl)
theorem dX9_road_28 : decode cX9_road 28 = .ok (.aload_n 1, 1) := dk_43 (dk_at dksX9_road_1 4 rfl rfl)
theorem dX9_road_29 : decode cX9_road 29 = .ok (.getfield 198, 3) := dk_180 0 198 (dk_at dksX9_road_1 5 rfl rfl)
theorem dX9_road_32 : decode cX9_road 32 = .ok (.bipush 9, 2) := dk_16 9 (dk_at dksX9_road_1 8 rfl rfl)
theorem dX9_road_34 : decode cX9_road 34 = .ok (.iload_n 2, 1) := dk_28 (dk_at dksX9_road_1 10 rfl rfl)
theorem dX9_road_35 : decode cX9_road 35 = .ok (.imul, 1) := dk_104 (dk_at dksX9_road_1 11 rfl rfl)
theorem dX9_road_36 : decode cX9_road 36 = .ok (.iload_n 3, 1) := dk_29 (dk_at dksX9_road_1 12 rfl rfl)
theorem dX9_road_37 : decode cX9_road 37 = .ok (.iadd, 1) := dk_96 (dk_at dksX9_road_1 13 rfl rfl)
theorem dX9_road_38 : decode cX9_road 38 = .ok (.iaload, 1) := dk_46 (dk_at dksX9_road_1 14 rfl rfl)
theorem dX9_road_39 : decode cX9_road 39 = .ok (.ifCond .ne 7, 3) := dk_154 0 7 (dk_at dksX9_road_1 15 rfl rfl)
theorem dX9_road_42 : decode cX9_road 42 = .ok (.iconst 1, 1) := dk_4 (dk_at dksX9_road_1 18 rfl rfl)
theorem dX9_road_43 : decode cX9_road 43 = .ok (.goto 4, 3) := dk_167 0 4 (dk_at dksX9_road_1 19 rfl rfl)
theorem dX9_road_46 : decode cX9_road 46 = .ok (.iconst 0, 1) := dk_3 (dk_at dksX9_road_1 22 rfl rfl)
theorem dX9_road_47 : decode cX9_road 47 = .ok (.iconst 4, 1) := dk_7 (dk_at dksX9_road_1 23 rfl rfl)
theorem dX9_road_48 : decode cX9_road 48 = .ok (.invokevirtual 116, 3) := dk_182 0 116 (dk_at dksX9_road_2 0 rfl rfl)
theorem dX9_road_51 : decode cX9_road 51 = .ok (.aload_n 0, 1) := dk_42 (dk_at dksX9_road_2 3 rfl rfl)
theorem dX9_road_52 : decode cX9_road 52 = .ok (.invokevirtual 29, 3) := dk_182 0 29 (dk_at dksX9_road_2 4 rfl rfl)
theorem dX9_road_55 : decode cX9_road 55 = .ok (.aload_n 1, 1) := dk_43 (dk_at dksX9_road_2 7 rfl rfl)
theorem dX9_road_56 : decode cX9_road 56 = .ok (.getfield 198, 3) := dk_180 0 198 (dk_at dksX9_road_2 8 rfl rfl)
theorem dX9_road_59 : decode cX9_road 59 = .ok (.bipush 9, 2) := dk_16 9 (dk_at dksX9_road_2 11 rfl rfl)
theorem dX9_road_61 : decode cX9_road 61 = .ok (.iload_n 2, 1) := dk_28 (dk_at dksX9_road_2 13 rfl rfl)
theorem dX9_road_62 : decode cX9_road 62 = .ok (.imul, 1) := dk_104 (dk_at dksX9_road_2 14 rfl rfl)
theorem dX9_road_63 : decode cX9_road 63 = .ok (.iload_n 3, 1) := dk_29 (dk_at dksX9_road_2 15 rfl rfl)
theorem dX9_road_64 : decode cX9_road 64 = .ok (.iadd, 1) := dk_96 (dk_at dksX9_road_2 16 rfl rfl)
theorem dX9_road_65 : decode cX9_road 65 = .ok (.aload_n 0, 1) := dk_42 (dk_at dksX9_road_2 17 rfl rfl)
theorem dX9_road_66 : decode cX9_road 66 = .ok (.iconst 1, 1) := dk_4 (dk_at dksX9_road_2 18 rfl rfl)
theorem dX9_road_67 : decode cX9_road 67 = .ok (.bipush 9, 2) := dk_16 9 (dk_at dksX9_road_2 19 rfl rfl)
theorem dX9_road_69 : decode cX9_road 69 = .ok (.invokevirtual 147, 3) := dk_182 0 147 (dk_at dksX9_road_2 21 rfl rfl)
theorem dX9_road_72 : decode cX9_road 72 = .ok (.iastore, 1) := dk_79 (dk_at dksX9_road_3 0 rfl rfl)
theorem dX9_road_73 : decode cX9_road 73 = .ok (.aload_n 1, 1) := dk_43 (dk_at dksX9_road_3 1 rfl rfl)
theorem dX9_road_74 : decode cX9_road 74 = .ok (.getfield 198, 3) := dk_180 0 198 (dk_at dksX9_road_3 2 rfl rfl)
theorem dX9_road_77 : decode cX9_road 77 = .ok (.bipush 9, 2) := dk_16 9 (dk_at dksX9_road_3 5 rfl rfl)
theorem dX9_road_79 : decode cX9_road 79 = .ok (.iload_n 3, 1) := dk_29 (dk_at dksX9_road_3 7 rfl rfl)
theorem dX9_road_80 : decode cX9_road 80 = .ok (.imul, 1) := dk_104 (dk_at dksX9_road_3 8 rfl rfl)
theorem dX9_road_81 : decode cX9_road 81 = .ok (.iload_n 2, 1) := dk_28 (dk_at dksX9_road_3 9 rfl rfl)
theorem dX9_road_82 : decode cX9_road 82 = .ok (.iadd, 1) := dk_96 (dk_at dksX9_road_3 10 rfl rfl)
theorem dX9_road_83 : decode cX9_road 83 = .ok (.aload_n 1, 1) := dk_43 (dk_at dksX9_road_3 11 rfl rfl)
theorem dX9_road_84 : decode cX9_road 84 = .ok (.getfield 198, 3) := dk_180 0 198 (dk_at dksX9_road_3 12 rfl rfl)
theorem dX9_road_87 : decode cX9_road 87 = .ok (.bipush 9, 2) := dk_16 9 (dk_at dksX9_road_3 15 rfl rfl)
theorem dX9_road_89 : decode cX9_road 89 = .ok (.iload_n 2, 1) := dk_28 (dk_at dksX9_road_3 17 rfl rfl)
theorem dX9_road_90 : decode cX9_road 90 = .ok (.imul, 1) := dk_104 (dk_at dksX9_road_3 18 rfl rfl)
theorem dX9_road_91 : decode cX9_road 91 = .ok (.iload_n 3, 1) := dk_29 (dk_at dksX9_road_3 19 rfl rfl)
theorem dX9_road_92 : decode cX9_road 92 = .ok (.iadd, 1) := dk_96 (dk_at dksX9_road_3 20 rfl rfl)
theorem dX9_road_93 : decode cX9_road 93 = .ok (.iaload, 1) := dk_46 (dk_at dksX9_road_3 21 rfl rfl)
theorem dX9_road_94 : decode cX9_road 94 = .ok (.iastore, 1) := dk_79 (dk_at dksX9_road_3 22 rfl rfl)
theorem dX9_road_95 : decode cX9_road 95 = .ok (.aload_n 1, 1) := dk_43 (dk_at dksX9_road_3 23 rfl rfl)
theorem dX9_road_96 : decode cX9_road 96 = .ok (.dup, 1) := dk_89 (dk_at dksX9_road_4 0 rfl rfl)
theorem dX9_road_97 : decode cX9_road 97 = .ok (.getfield 135, 3) := dk_180 0 135 (dk_at dksX9_road_4 1 rfl rfl)
theorem dX9_road_100 : decode cX9_road 100 = .ok (.iconst 1, 1) := dk_4 (dk_at dksX9_road_4 4 rfl rfl)
theorem dX9_road_101 : decode cX9_road 101 = .ok (.iadd, 1) := dk_96 (dk_at dksX9_road_4 5 rfl rfl)
theorem dX9_road_102 : decode cX9_road 102 = .ok (.putfield 135, 3) := dk_181 0 135 (dk_at dksX9_road_4 6 rfl rfl)
theorem dX9_road_105 : decode cX9_road 105 = .ok (.return_, 1) := dk_177 (dk_at dksX9_road_4 9 rfl rfl)
abbrev cX9_amongHere : ByteArray := prog_10_method_12_code
def yX9_amongHere : MethodName := ⟨RX9, "amongHere", "(I)I"⟩
def dkwX9_amongHere_2 : List UInt8 := [4, 167, 0, 4, 3, 6, 182, 0, 116, 42, 180, 0, 82, 172]
abbrev dktX9_amongHere_2 : List UInt8 := dkwX9_amongHere_2 ++ []
def dkwX9_amongHere_1 : List UInt8 := [180, 0, 42, 154, 0, 7, 4, 167, 0, 4, 3, 5, 182, 0, 116, 42, 42, 180, 0, 82, 27, 162, 0, 7]
abbrev dktX9_amongHere_1 : List UInt8 := dkwX9_amongHere_1 ++ dktX9_amongHere_2
def dkwX9_amongHere_0 : List UInt8 := [42, 42, 180, 0, 52, 178, 0, 85, 166, 0, 7, 4, 167, 0, 4, 3, 4, 182, 0, 116, 42, 42]
abbrev dktX9_amongHere_0 : List UInt8 := dkwX9_amongHere_0 ++ dktX9_amongHere_1
theorem dksX9_amongHere_0 : cX9_amongHere.data.toList.drop 0 = dktX9_amongHere_0 := by decide +kernel
theorem dksX9_amongHere_1 : cX9_amongHere.data.toList.drop 22 = dktX9_amongHere_1 := dk_seg dksX9_amongHere_0 22 rfl rfl
theorem dksX9_amongHere_2 : cX9_amongHere.data.toList.drop 46 = dktX9_amongHere_2 := dk_seg dksX9_amongHere_1 24 rfl rfl
theorem dX9_amongHere_0 : decode cX9_amongHere 0 = .ok (.aload_n 0, 1) := dk_42 (dk_at dksX9_amongHere_0 0 rfl rfl)
theorem dX9_amongHere_1 : decode cX9_amongHere 1 = .ok (.aload_n 0, 1) := dk_42 (dk_at dksX9_amongHere_0 1 rfl rfl)
theorem dX9_amongHere_2 : decode cX9_amongHere 2 = .ok (.getfield 52, 3) := dk_180 0 52 (dk_at dksX9_amongHere_0 2 rfl rfl)
theorem dX9_amongHere_5 : decode cX9_amongHere 5 = .ok (.getstatic 85, 3) := dk_178 0 85 (dk_at dksX9_amongHere_0 5 rfl rfl)
theorem dX9_amongHere_8 : decode cX9_amongHere 8 = .ok (.if_acmp .ne 7, 3) := dk_166 0 7 (dk_at dksX9_amongHere_0 8 rfl rfl)
theorem dX9_amongHere_11 : decode cX9_amongHere 11 = .ok (.iconst 1, 1) := dk_4 (dk_at dksX9_amongHere_0 11 rfl rfl)
theorem dX9_amongHere_12 : decode cX9_amongHere 12 = .ok (.goto 4, 3) := dk_167 0 4 (dk_at dksX9_amongHere_0 12 rfl rfl)
theorem dX9_amongHere_15 : decode cX9_amongHere 15 = .ok (.iconst 0, 1) := dk_3 (dk_at dksX9_amongHere_0 15 rfl rfl)
theorem dX9_amongHere_16 : decode cX9_amongHere 16 = .ok (.iconst 1, 1) := dk_4 (dk_at dksX9_amongHere_0 16 rfl rfl)
theorem dX9_amongHere_17 : decode cX9_amongHere 17 = .ok (.invokevirtual 116, 3) := dk_182 0 116 (dk_at dksX9_amongHere_0 17 rfl rfl)
theorem dX9_amongHere_20 : decode cX9_amongHere 20 = .ok (.aload_n 0, 1) := dk_42 (dk_at dksX9_amongHere_0 20 rfl rfl)
theorem dX9_amongHere_21 : decode cX9_amongHere 21 = .ok (.aload_n 0, 1) := dk_42 (dk_at dksX9_amongHere_0 21 rfl rfl)
theorem dX9_amongHere_22 : decode cX9_amongHere 22 = .ok (.getfield 42, 3) := dk_180 0 42 (dk_at dksX9_amongHere_1 0 rfl rfl)
theorem dX9_amongHere_25 : decode cX9_amongHere 25 = .ok (.ifCond .ne 7, 3) := dk_154 0 7 (dk_at dksX9_amongHere_1 3 rfl rfl)
theorem dX9_amongHere_28 : decode cX9_amongHere 28 = .ok (.iconst 1, 1) := dk_4 (dk_at dksX9_amongHere_1 6 rfl rfl)
theorem dX9_amongHere_29 : decode cX9_amongHere 29 = .ok (.goto 4, 3) := dk_167 0 4 (dk_at dksX9_amongHere_1 7 rfl rfl)
theorem dX9_amongHere_32 : decode cX9_amongHere 32 = .ok (.iconst 0, 1) := dk_3 (dk_at dksX9_amongHere_1 10 rfl rfl)
theorem dX9_amongHere_33 : decode cX9_amongHere 33 = .ok (.iconst 2, 1) := dk_5 (dk_at dksX9_amongHere_1 11 rfl rfl)
theorem dX9_amongHere_34 : decode cX9_amongHere 34 = .ok (.invokevirtual 116, 3) := dk_182 0 116 (dk_at dksX9_amongHere_1 12 rfl rfl)
theorem dX9_amongHere_37 : decode cX9_amongHere 37 = .ok (.aload_n 0, 1) := dk_42 (dk_at dksX9_amongHere_1 15 rfl rfl)
theorem dX9_amongHere_38 : decode cX9_amongHere 38 = .ok (.aload_n 0, 1) := dk_42 (dk_at dksX9_amongHere_1 16 rfl rfl)
theorem dX9_amongHere_39 : decode cX9_amongHere 39 = .ok (.getfield 82, 3) := dk_180 0 82 (dk_at dksX9_amongHere_1 17 rfl rfl)
theorem dX9_amongHere_42 : decode cX9_amongHere 42 = .ok (.iload_n 1, 1) := dk_27 (dk_at dksX9_amongHere_1 20 rfl rfl)
theorem dX9_amongHere_43 : decode cX9_amongHere 43 = .ok (.if_icmp .ge 7, 3) := dk_162 0 7 (dk_at dksX9_amongHere_1 21 rfl rfl)
theorem dX9_amongHere_46 : decode cX9_amongHere 46 = .ok (.iconst 1, 1) := dk_4 (dk_at dksX9_amongHere_2 0 rfl rfl)
theorem dX9_amongHere_47 : decode cX9_amongHere 47 = .ok (.goto 4, 3) := dk_167 0 4 (dk_at dksX9_amongHere_2 1 rfl rfl)
theorem dX9_amongHere_50 : decode cX9_amongHere 50 = .ok (.iconst 0, 1) := dk_3 (dk_at dksX9_amongHere_2 4 rfl rfl)
theorem dX9_amongHere_51 : decode cX9_amongHere 51 = .ok (.iconst 3, 1) := dk_6 (dk_at dksX9_amongHere_2 5 rfl rfl)
theorem dX9_amongHere_52 : decode cX9_amongHere 52 = .ok (.invokevirtual 116, 3) := dk_182 0 116 (dk_at dksX9_amongHere_2 6 rfl rfl)
theorem dX9_amongHere_55 : decode cX9_amongHere 55 = .ok (.aload_n 0, 1) := dk_42 (dk_at dksX9_amongHere_2 9 rfl rfl)
theorem dX9_amongHere_56 : decode cX9_amongHere 56 = .ok (.getfield 82, 3) := dk_180 0 82 (dk_at dksX9_amongHere_2 10 rfl rfl)
theorem dX9_amongHere_59 : decode cX9_amongHere 59 = .ok (.ireturn, 1) := dk_172 (dk_at dksX9_amongHere_2 13 rfl rfl)
abbrev cX9_number : ByteArray := prog_10_method_10_code
def yX9_number : MethodName := ⟨RX9, "number", "(II)I"⟩
def dkwX9_number_2 : List UInt8 := [167, 0, 4, 3, 5, 182, 0, 116, 42, 180, 0, 82, 62, 42, 182, 0, 29, 29, 172]
abbrev dktX9_number_2 : List UInt8 := dkwX9_number_2 ++ []
def dkwX9_number_1 : List UInt8 := [180, 0, 42, 154, 0, 23, 42, 180, 0, 82, 27, 161, 0, 15, 42, 180, 0, 82, 28, 163, 0, 7, 4]
abbrev dktX9_number_1 : List UInt8 := dkwX9_number_1 ++ dktX9_number_2
def dkwX9_number_0 : List UInt8 := [42, 42, 180, 0, 52, 178, 0, 85, 166, 0, 7, 4, 167, 0, 4, 3, 4, 182, 0, 116, 42, 42]
abbrev dktX9_number_0 : List UInt8 := dkwX9_number_0 ++ dktX9_number_1
theorem dksX9_number_0 : cX9_number.data.toList.drop 0 = dktX9_number_0 := by decide +kernel
theorem dksX9_number_1 : cX9_number.data.toList.drop 22 = dktX9_number_1 := dk_seg dksX9_number_0 22 rfl rfl
theorem dksX9_number_2 : cX9_number.data.toList.drop 45 = dktX9_number_2 := dk_seg dksX9_number_1 23 rfl rfl
theorem dX9_number_0 : decode cX9_number 0 = .ok (.aload_n 0, 1) := dk_42 (dk_at dksX9_number_0 0 rfl rfl)
theorem dX9_number_1 : decode cX9_number 1 = .ok (.aload_n 0, 1) := dk_42 (dk_at dksX9_number_0 1 rfl rfl)
theorem dX9_number_2 : decode cX9_number 2 = .ok (.getfield 52, 3) := dk_180 0 52 (dk_at dksX9_number_0 2 rfl rfl)
theorem dX9_number_5 : decode cX9_number 5 = .ok (.getstatic 85, 3) := dk_178 0 85 (dk_at dksX9_number_0 5 rfl rfl)
theorem dX9_number_8 : decode cX9_number 8 = .ok (.if_acmp .ne 7, 3) := dk_166 0 7 (dk_at dksX9_number_0 8 rfl rfl)
theorem dX9_number_11 : decode cX9_number 11 = .ok (.iconst 1, 1) := dk_4 (dk_at dksX9_number_0 11 rfl rfl)
theorem dX9_number_12 : decode cX9_number 12 = .ok (.goto 4, 3) := dk_167 0 4 (dk_at dksX9_number_0 12 rfl rfl)
theorem dX9_number_15 : decode cX9_number 15 = .ok (.iconst 0, 1) := dk_3 (dk_at dksX9_number_0 15 rfl rfl)
theorem dX9_number_16 : decode cX9_number 16 = .ok (.iconst 1, 1) := dk_4 (dk_at dksX9_number_0 16 rfl rfl)
theorem dX9_number_17 : decode cX9_number 17 = .ok (.invokevirtual 116, 3) := dk_182 0 116 (dk_at dksX9_number_0 17 rfl rfl)
theorem dX9_number_20 : decode cX9_number 20 = .ok (.aload_n 0, 1) := dk_42 (dk_at dksX9_number_0 20 rfl rfl)
theorem dX9_number_21 : decode cX9_number 21 = .ok (.aload_n 0, 1) := dk_42 (dk_at dksX9_number_0 21 rfl rfl)
theorem dX9_number_22 : decode cX9_number 22 = .ok (.getfield 42, 3) := dk_180 0 42 (dk_at dksX9_number_1 0 rfl rfl)
theorem dX9_number_25 : decode cX9_number 25 = .ok (.ifCond .ne 23, 3) := dk_154 0 23 (dk_at dksX9_number_1 3 rfl rfl)
theorem dX9_number_28 : decode cX9_number 28 = .ok (.aload_n 0, 1) := dk_42 (dk_at dksX9_number_1 6 rfl rfl)
theorem dX9_number_29 : decode cX9_number 29 = .ok (.getfield 82, 3) := dk_180 0 82 (dk_at dksX9_number_1 7 rfl rfl)
theorem dX9_number_32 : decode cX9_number 32 = .ok (.iload_n 1, 1) := dk_27 (dk_at dksX9_number_1 10 rfl rfl)
theorem dX9_number_33 : decode cX9_number 33 = .ok (.if_icmp .lt 15, 3) := dk_161 0 15 (dk_at dksX9_number_1 11 rfl rfl)
theorem dX9_number_36 : decode cX9_number 36 = .ok (.aload_n 0, 1) := dk_42 (dk_at dksX9_number_1 14 rfl rfl)
theorem dX9_number_37 : decode cX9_number 37 = .ok (.getfield 82, 3) := dk_180 0 82 (dk_at dksX9_number_1 15 rfl rfl)
theorem dX9_number_40 : decode cX9_number 40 = .ok (.iload_n 2, 1) := dk_28 (dk_at dksX9_number_1 18 rfl rfl)
theorem dX9_number_41 : decode cX9_number 41 = .ok (.if_icmp .gt 7, 3) := dk_163 0 7 (dk_at dksX9_number_1 19 rfl rfl)
theorem dX9_number_44 : decode cX9_number 44 = .ok (.iconst 1, 1) := dk_4 (dk_at dksX9_number_1 22 rfl rfl)
theorem dX9_number_45 : decode cX9_number 45 = .ok (.goto 4, 3) := dk_167 0 4 (dk_at dksX9_number_2 0 rfl rfl)
theorem dX9_number_48 : decode cX9_number 48 = .ok (.iconst 0, 1) := dk_3 (dk_at dksX9_number_2 3 rfl rfl)
theorem dX9_number_49 : decode cX9_number 49 = .ok (.iconst 2, 1) := dk_5 (dk_at dksX9_number_2 4 rfl rfl)
theorem dX9_number_50 : decode cX9_number 50 = .ok (.invokevirtual 116, 3) := dk_182 0 116 (dk_at dksX9_number_2 5 rfl rfl)
theorem dX9_number_53 : decode cX9_number 53 = .ok (.aload_n 0, 1) := dk_42 (dk_at dksX9_number_2 8 rfl rfl)
theorem dX9_number_54 : decode cX9_number 54 = .ok (.getfield 82, 3) := dk_180 0 82 (dk_at dksX9_number_2 9 rfl rfl)
theorem dX9_number_57 : decode cX9_number 57 = .ok (.istore_n 3, 1) := dk_62 (dk_at dksX9_number_2 12 rfl rfl)
theorem dX9_number_58 : decode cX9_number 58 = .ok (.aload_n 0, 1) := dk_42 (dk_at dksX9_number_2 13 rfl rfl)
theorem dX9_number_59 : decode cX9_number 59 = .ok (.invokevirtual 29, 3) := dk_182 0 29 (dk_at dksX9_number_2 14 rfl rfl)
theorem dX9_number_62 : decode cX9_number 62 = .ok (.iload_n 3, 1) := dk_29 (dk_at dksX9_number_2 17 rfl rfl)
theorem dX9_number_63 : decode cX9_number 63 = .ok (.ireturn, 1) := dk_172 (dk_at dksX9_number_2 18 rfl rfl)
abbrev cX9_begins : ByteArray := prog_10_method_11_code
def yX9_begins : MethodName := ⟨RX9, "begins", "(Ljava/lang/String;I)Z"⟩
def dkwX9_begins_1 : List UInt8 := [3, 8, 182, 0, 116, 42, 180, 0, 17, 28, 4, 84, 42, 182, 0, 29, 4, 172]
abbrev dktX9_begins_1 : List UInt8 := dkwX9_begins_1 ++ []
def dkwX9_begins_0 : List UInt8 := [42, 43, 182, 0, 112, 154, 0, 5, 3, 172, 42, 42, 180, 0, 17, 28, 51, 154, 0, 7, 4, 167, 0, 4]
abbrev dktX9_begins_0 : List UInt8 := dkwX9_begins_0 ++ dktX9_begins_1
theorem dksX9_begins_0 : cX9_begins.data.toList.drop 0 = dktX9_begins_0 := by decide +kernel
theorem dksX9_begins_1 : cX9_begins.data.toList.drop 24 = dktX9_begins_1 := dk_seg dksX9_begins_0 24 rfl rfl
theorem dX9_begins_0 : decode cX9_begins 0 = .ok (.aload_n 0, 1) := dk_42 (dk_at dksX9_begins_0 0 rfl rfl)
theorem dX9_begins_1 : decode cX9_begins 1 = .ok (.aload_n 1, 1) := dk_43 (dk_at dksX9_begins_0 1 rfl rfl)
theorem dX9_begins_2 : decode cX9_begins 2 = .ok (.invokevirtual 112, 3) := dk_182 0 112 (dk_at dksX9_begins_0 2 rfl rfl)
theorem dX9_begins_5 : decode cX9_begins 5 = .ok (.ifCond .ne 5, 3) := dk_154 0 5 (dk_at dksX9_begins_0 5 rfl rfl)
theorem dX9_begins_8 : decode cX9_begins 8 = .ok (.iconst 0, 1) := dk_3 (dk_at dksX9_begins_0 8 rfl rfl)
theorem dX9_begins_9 : decode cX9_begins 9 = .ok (.ireturn, 1) := dk_172 (dk_at dksX9_begins_0 9 rfl rfl)
theorem dX9_begins_10 : decode cX9_begins 10 = .ok (.aload_n 0, 1) := dk_42 (dk_at dksX9_begins_0 10 rfl rfl)
theorem dX9_begins_11 : decode cX9_begins 11 = .ok (.aload_n 0, 1) := dk_42 (dk_at dksX9_begins_0 11 rfl rfl)
theorem dX9_begins_12 : decode cX9_begins 12 = .ok (.getfield 17, 3) := dk_180 0 17 (dk_at dksX9_begins_0 12 rfl rfl)
theorem dX9_begins_15 : decode cX9_begins 15 = .ok (.iload_n 2, 1) := dk_28 (dk_at dksX9_begins_0 15 rfl rfl)
theorem dX9_begins_16 : decode cX9_begins 16 = .ok (.baload, 1) := dk_51 (dk_at dksX9_begins_0 16 rfl rfl)
theorem dX9_begins_17 : decode cX9_begins 17 = .ok (.ifCond .ne 7, 3) := dk_154 0 7 (dk_at dksX9_begins_0 17 rfl rfl)
theorem dX9_begins_20 : decode cX9_begins 20 = .ok (.iconst 1, 1) := dk_4 (dk_at dksX9_begins_0 20 rfl rfl)
theorem dX9_begins_21 : decode cX9_begins 21 = .ok (.goto 4, 3) := dk_167 0 4 (dk_at dksX9_begins_0 21 rfl rfl)
theorem dX9_begins_24 : decode cX9_begins 24 = .ok (.iconst 0, 1) := dk_3 (dk_at dksX9_begins_1 0 rfl rfl)
theorem dX9_begins_25 : decode cX9_begins 25 = .ok (.iconst 5, 1) := dk_8 (dk_at dksX9_begins_1 1 rfl rfl)
theorem dX9_begins_26 : decode cX9_begins 26 = .ok (.invokevirtual 116, 3) := dk_182 0 116 (dk_at dksX9_begins_1 2 rfl rfl)
theorem dX9_begins_29 : decode cX9_begins 29 = .ok (.aload_n 0, 1) := dk_42 (dk_at dksX9_begins_1 5 rfl rfl)
theorem dX9_begins_30 : decode cX9_begins 30 = .ok (.getfield 17, 3) := dk_180 0 17 (dk_at dksX9_begins_1 6 rfl rfl)
theorem dX9_begins_33 : decode cX9_begins 33 = .ok (.iload_n 2, 1) := dk_28 (dk_at dksX9_begins_1 9 rfl rfl)
theorem dX9_begins_34 : decode cX9_begins 34 = .ok (.iconst 1, 1) := dk_4 (dk_at dksX9_begins_1 10 rfl rfl)
theorem dX9_begins_35 : decode cX9_begins 35 = .ok (.bastore, 1) := dk_84 (dk_at dksX9_begins_1 11 rfl rfl)
theorem dX9_begins_36 : decode cX9_begins 36 = .ok (.aload_n 0, 1) := dk_42 (dk_at dksX9_begins_1 12 rfl rfl)
theorem dX9_begins_37 : decode cX9_begins 37 = .ok (.invokevirtual 29, 3) := dk_182 0 29 (dk_at dksX9_begins_1 13 rfl rfl)
theorem dX9_begins_40 : decode cX9_begins 40 = .ok (.iconst 1, 1) := dk_4 (dk_at dksX9_begins_1 16 rfl rfl)
theorem dX9_begins_41 : decode cX9_begins 41 = .ok (.ireturn, 1) := dk_172 (dk_at dksX9_begins_1 17 rfl rfl)
abbrev cX9_expr : ByteArray := prog_10_method_17_code
def yX9_expr : MethodName := ⟨RX9, "expr", "(I)LApartBench$Expr;"⟩
def dkwX9_expr_3 : List UInt8 := [42, 27, 182, 0, 223, 183, 0, 230, 77, 167, 255, 227, 44, 176]
abbrev dktX9_expr_3 : List UInt8 := dkwX9_expr_3 ++ []
def dkwX9_expr_2 : List UInt8 := [182, 0, 223, 77, 42, 18, 226, 182, 0, 112, 153, 0, 26, 42, 182, 0, 29, 187, 0, 228, 89, 16, 124, 44]
abbrev dktX9_expr_2 : List UInt8 := dkwX9_expr_2 ++ dktX9_expr_3
def dkwX9_expr_1 : List UInt8 := [165, 0, 16, 42, 18, 221, 182, 0, 112, 154, 0, 7, 4, 167, 0, 4, 3, 5, 182, 0, 116, 42, 27]
abbrev dktX9_expr_1 : List UInt8 := dkwX9_expr_1 ++ dktX9_expr_2
def dkwX9_expr_0 : List UInt8 := [27, 16, 6, 161, 0, 42, 42, 42, 180, 0, 52, 178, 0, 85, 165, 0, 26, 42, 180, 0, 52, 178, 0, 76]
abbrev dktX9_expr_0 : List UInt8 := dkwX9_expr_0 ++ dktX9_expr_1
theorem dksX9_expr_0 : cX9_expr.data.toList.drop 0 = dktX9_expr_0 := by decide +kernel
theorem dksX9_expr_1 : cX9_expr.data.toList.drop 24 = dktX9_expr_1 := dk_seg dksX9_expr_0 24 rfl rfl
theorem dksX9_expr_2 : cX9_expr.data.toList.drop 47 = dktX9_expr_2 := dk_seg dksX9_expr_1 23 rfl rfl
theorem dksX9_expr_3 : cX9_expr.data.toList.drop 71 = dktX9_expr_3 := dk_seg dksX9_expr_2 24 rfl rfl
theorem dX9_expr_0 : decode cX9_expr 0 = .ok (.iload_n 1, 1) := dk_27 (dk_at dksX9_expr_0 0 rfl rfl)
theorem dX9_expr_1 : decode cX9_expr 1 = .ok (.bipush 6, 2) := dk_16 6 (dk_at dksX9_expr_0 1 rfl rfl)
theorem dX9_expr_3 : decode cX9_expr 3 = .ok (.if_icmp .lt 42, 3) := dk_161 0 42 (dk_at dksX9_expr_0 3 rfl rfl)
theorem dX9_expr_6 : decode cX9_expr 6 = .ok (.aload_n 0, 1) := dk_42 (dk_at dksX9_expr_0 6 rfl rfl)
theorem dX9_expr_7 : decode cX9_expr 7 = .ok (.aload_n 0, 1) := dk_42 (dk_at dksX9_expr_0 7 rfl rfl)
theorem dX9_expr_8 : decode cX9_expr 8 = .ok (.getfield 52, 3) := dk_180 0 52 (dk_at dksX9_expr_0 8 rfl rfl)
theorem dX9_expr_11 : decode cX9_expr 11 = .ok (.getstatic 85, 3) := dk_178 0 85 (dk_at dksX9_expr_0 11 rfl rfl)
theorem dX9_expr_14 : decode cX9_expr 14 = .ok (.if_acmp .eq 26, 3) := dk_165 0 26 (dk_at dksX9_expr_0 14 rfl rfl)
theorem dX9_expr_17 : decode cX9_expr 17 = .ok (.aload_n 0, 1) := dk_42 (dk_at dksX9_expr_0 17 rfl rfl)
theorem dX9_expr_18 : decode cX9_expr 18 = .ok (.getfield 52, 3) := dk_180 0 52 (dk_at dksX9_expr_0 18 rfl rfl)
theorem dX9_expr_21 : decode cX9_expr 21 = .ok (.getstatic 76, 3) := dk_178 0 76 (dk_at dksX9_expr_0 21 rfl rfl)
theorem dX9_expr_24 : decode cX9_expr 24 = .ok (.if_acmp .eq 16, 3) := dk_165 0 16 (dk_at dksX9_expr_1 0 rfl rfl)
theorem dX9_expr_27 : decode cX9_expr 27 = .ok (.aload_n 0, 1) := dk_42 (dk_at dksX9_expr_1 3 rfl rfl)
theorem dX9_expr_28 : decode cX9_expr 28 = .ok (.ldc 221, 2) := dk_18 221 (dk_at dksX9_expr_1 4 rfl rfl)
theorem dX9_expr_30 : decode cX9_expr 30 = .ok (.invokevirtual 112, 3) := dk_182 0 112 (dk_at dksX9_expr_1 6 rfl rfl)
theorem dX9_expr_33 : decode cX9_expr 33 = .ok (.ifCond .ne 7, 3) := dk_154 0 7 (dk_at dksX9_expr_1 9 rfl rfl)
theorem dX9_expr_36 : decode cX9_expr 36 = .ok (.iconst 1, 1) := dk_4 (dk_at dksX9_expr_1 12 rfl rfl)
theorem dX9_expr_37 : decode cX9_expr 37 = .ok (.goto 4, 3) := dk_167 0 4 (dk_at dksX9_expr_1 13 rfl rfl)
theorem dX9_expr_40 : decode cX9_expr 40 = .ok (.iconst 0, 1) := dk_3 (dk_at dksX9_expr_1 16 rfl rfl)
theorem dX9_expr_41 : decode cX9_expr 41 = .ok (.iconst 2, 1) := dk_5 (dk_at dksX9_expr_1 17 rfl rfl)
theorem dX9_expr_42 : decode cX9_expr 42 = .ok (.invokevirtual 116, 3) := dk_182 0 116 (dk_at dksX9_expr_1 18 rfl rfl)
theorem dX9_expr_45 : decode cX9_expr 45 = .ok (.aload_n 0, 1) := dk_42 (dk_at dksX9_expr_1 21 rfl rfl)
theorem dX9_expr_46 : decode cX9_expr 46 = .ok (.iload_n 1, 1) := dk_27 (dk_at dksX9_expr_1 22 rfl rfl)
theorem dX9_expr_47 : decode cX9_expr 47 = .ok (.invokevirtual 223, 3) := dk_182 0 223 (dk_at dksX9_expr_2 0 rfl rfl)
theorem dX9_expr_50 : decode cX9_expr 50 = .ok (.astore_n 2, 1) := dk_77 (dk_at dksX9_expr_2 3 rfl rfl)
theorem dX9_expr_51 : decode cX9_expr 51 = .ok (.aload_n 0, 1) := dk_42 (dk_at dksX9_expr_2 4 rfl rfl)
theorem dX9_expr_52 : decode cX9_expr 52 = .ok (.ldc 226, 2) := dk_18 226 (dk_at dksX9_expr_2 5 rfl rfl)
theorem dX9_expr_54 : decode cX9_expr 54 = .ok (.invokevirtual 112, 3) := dk_182 0 112 (dk_at dksX9_expr_2 7 rfl rfl)
theorem dX9_expr_57 : decode cX9_expr 57 = .ok (.ifCond .eq 26, 3) := dk_153 0 26 (dk_at dksX9_expr_2 10 rfl rfl)
theorem dX9_expr_60 : decode cX9_expr 60 = .ok (.aload_n 0, 1) := dk_42 (dk_at dksX9_expr_2 13 rfl rfl)
theorem dX9_expr_61 : decode cX9_expr 61 = .ok (.invokevirtual 29, 3) := dk_182 0 29 (dk_at dksX9_expr_2 14 rfl rfl)
theorem dX9_expr_64 : decode cX9_expr 64 = .ok (.new 228, 3) := dk_187 0 228 (dk_at dksX9_expr_2 17 rfl rfl)
theorem dX9_expr_67 : decode cX9_expr 67 = .ok (.dup, 1) := dk_89 (dk_at dksX9_expr_2 20 rfl rfl)
theorem dX9_expr_68 : decode cX9_expr 68 = .ok (.bipush 124, 2) := dk_16 124 (dk_at dksX9_expr_2 21 rfl rfl)
theorem dX9_expr_70 : decode cX9_expr 70 = .ok (.aload_n 2, 1) := dk_44 (dk_at dksX9_expr_2 23 rfl rfl)
theorem dX9_expr_71 : decode cX9_expr 71 = .ok (.aload_n 0, 1) := dk_42 (dk_at dksX9_expr_3 0 rfl rfl)
theorem dX9_expr_72 : decode cX9_expr 72 = .ok (.iload_n 1, 1) := dk_27 (dk_at dksX9_expr_3 1 rfl rfl)
theorem dX9_expr_73 : decode cX9_expr 73 = .ok (.invokevirtual 223, 3) := dk_182 0 223 (dk_at dksX9_expr_3 2 rfl rfl)
theorem dX9_expr_76 : decode cX9_expr 76 = .ok (.invokespecial 230, 3) := dk_183 0 230 (dk_at dksX9_expr_3 5 rfl rfl)
theorem dX9_expr_79 : decode cX9_expr 79 = .ok (.astore_n 2, 1) := dk_77 (dk_at dksX9_expr_3 8 rfl rfl)
theorem dX9_expr_80 : decode cX9_expr 80 = .ok (.goto (-29), 3) := dk_167 255 227 (dk_at dksX9_expr_3 9 rfl rfl)
theorem dX9_expr_83 : decode cX9_expr 83 = .ok (.aload_n 2, 1) := dk_44 (dk_at dksX9_expr_3 12 rfl rfl)
theorem dX9_expr_84 : decode cX9_expr 84 = .ok (.areturn, 1) := dk_176 (dk_at dksX9_expr_3 13 rfl rfl)
abbrev cX9_and : ByteArray := prog_10_method_18_code
def yX9_and : MethodName := ⟨RX9, "and", "(I)LApartBench$Expr;"⟩
def dkwX9_and_1 : List UInt8 := [16, 38, 44, 42, 27, 182, 0, 233, 183, 0, 230, 77, 167, 255, 227, 44, 176]
abbrev dktX9_and_1 : List UInt8 := dkwX9_and_1 ++ []
def dkwX9_and_0 : List UInt8 := [42, 27, 182, 0, 233, 77, 42, 18, 236, 182, 0, 112, 153, 0, 26, 42, 182, 0, 29, 187, 0, 228, 89]
abbrev dktX9_and_0 : List UInt8 := dkwX9_and_0 ++ dktX9_and_1
theorem dksX9_and_0 : cX9_and.data.toList.drop 0 = dktX9_and_0 := by decide +kernel
theorem dksX9_and_1 : cX9_and.data.toList.drop 23 = dktX9_and_1 := dk_seg dksX9_and_0 23 rfl rfl
theorem dX9_and_0 : decode cX9_and 0 = .ok (.aload_n 0, 1) := dk_42 (dk_at dksX9_and_0 0 rfl rfl)
theorem dX9_and_1 : decode cX9_and 1 = .ok (.iload_n 1, 1) := dk_27 (dk_at dksX9_and_0 1 rfl rfl)
theorem dX9_and_2 : decode cX9_and 2 = .ok (.invokevirtual 233, 3) := dk_182 0 233 (dk_at dksX9_and_0 2 rfl rfl)
theorem dX9_and_5 : decode cX9_and 5 = .ok (.astore_n 2, 1) := dk_77 (dk_at dksX9_and_0 5 rfl rfl)
theorem dX9_and_6 : decode cX9_and 6 = .ok (.aload_n 0, 1) := dk_42 (dk_at dksX9_and_0 6 rfl rfl)
theorem dX9_and_7 : decode cX9_and 7 = .ok (.ldc 236, 2) := dk_18 236 (dk_at dksX9_and_0 7 rfl rfl)
theorem dX9_and_9 : decode cX9_and 9 = .ok (.invokevirtual 112, 3) := dk_182 0 112 (dk_at dksX9_and_0 9 rfl rfl)
theorem dX9_and_12 : decode cX9_and 12 = .ok (.ifCond .eq 26, 3) := dk_153 0 26 (dk_at dksX9_and_0 12 rfl rfl)
theorem dX9_and_15 : decode cX9_and 15 = .ok (.aload_n 0, 1) := dk_42 (dk_at dksX9_and_0 15 rfl rfl)
theorem dX9_and_16 : decode cX9_and 16 = .ok (.invokevirtual 29, 3) := dk_182 0 29 (dk_at dksX9_and_0 16 rfl rfl)
theorem dX9_and_19 : decode cX9_and 19 = .ok (.new 228, 3) := dk_187 0 228 (dk_at dksX9_and_0 19 rfl rfl)
theorem dX9_and_22 : decode cX9_and 22 = .ok (.dup, 1) := dk_89 (dk_at dksX9_and_0 22 rfl rfl)
theorem dX9_and_23 : decode cX9_and 23 = .ok (.bipush 38, 2) := dk_16 38 (dk_at dksX9_and_1 0 rfl rfl)
theorem dX9_and_25 : decode cX9_and 25 = .ok (.aload_n 2, 1) := dk_44 (dk_at dksX9_and_1 2 rfl rfl)
theorem dX9_and_26 : decode cX9_and 26 = .ok (.aload_n 0, 1) := dk_42 (dk_at dksX9_and_1 3 rfl rfl)
theorem dX9_and_27 : decode cX9_and 27 = .ok (.iload_n 1, 1) := dk_27 (dk_at dksX9_and_1 4 rfl rfl)
theorem dX9_and_28 : decode cX9_and 28 = .ok (.invokevirtual 233, 3) := dk_182 0 233 (dk_at dksX9_and_1 5 rfl rfl)
theorem dX9_and_31 : decode cX9_and 31 = .ok (.invokespecial 230, 3) := dk_183 0 230 (dk_at dksX9_and_1 8 rfl rfl)
theorem dX9_and_34 : decode cX9_and 34 = .ok (.astore_n 2, 1) := dk_77 (dk_at dksX9_and_1 11 rfl rfl)
theorem dX9_and_35 : decode cX9_and 35 = .ok (.goto (-29), 3) := dk_167 255 227 (dk_at dksX9_and_1 12 rfl rfl)
theorem dX9_and_38 : decode cX9_and 38 = .ok (.aload_n 2, 1) := dk_44 (dk_at dksX9_and_1 15 rfl rfl)
theorem dX9_and_39 : decode cX9_and 39 = .ok (.areturn, 1) := dk_176 (dk_at dksX9_and_1 16 rfl rfl)
abbrev cX9_not : ByteArray := prog_10_method_19_code
def yX9_not : MethodName := ⟨RX9, "not", "(I)LApartBench$Expr;"⟩
def dkwX9_not_4 : List UInt8 := [158, 0, 18, 187, 0, 249, 89, 45, 183, 0, 251, 78, 132, 2, 255, 167, 255, 240, 45, 176]
abbrev dktX9_not_4 : List UInt8 := dkwX9_not_4 ++ []
def dkwX9_not_3 : List UInt8 := [54, 4, 42, 182, 0, 29, 187, 0, 228, 89, 21, 4, 45, 42, 27, 182, 0, 238, 183, 0, 230, 78, 28]
abbrev dktX9_not_3 : List UInt8 := dkwX9_not_3 ++ dktX9_not_4
def dkwX9_not_2 : List UInt8 := [182, 0, 112, 154, 0, 12, 42, 18, 243, 182, 0, 112, 153, 0, 33, 42, 180, 0, 11, 3, 182, 0, 245]
abbrev dktX9_not_2 : List UInt8 := dkwX9_not_2 ++ dktX9_not_3
def dkwX9_not_1 : List UInt8 := [182, 0, 116, 42, 182, 0, 29, 132, 2, 1, 167, 255, 224, 42, 27, 182, 0, 238, 78, 42, 18, 241]
abbrev dktX9_not_1 : List UInt8 := dkwX9_not_1 ++ dktX9_not_2
def dkwX9_not_0 : List UInt8 := [3, 61, 42, 18, 237, 182, 0, 112, 153, 0, 29, 42, 28, 16, 6, 162, 0, 7, 4, 167, 0, 4, 3, 5]
abbrev dktX9_not_0 : List UInt8 := dkwX9_not_0 ++ dktX9_not_1
theorem dksX9_not_0 : cX9_not.data.toList.drop 0 = dktX9_not_0 := by decide +kernel
theorem dksX9_not_1 : cX9_not.data.toList.drop 24 = dktX9_not_1 := dk_seg dksX9_not_0 24 rfl rfl
theorem dksX9_not_2 : cX9_not.data.toList.drop 46 = dktX9_not_2 := dk_seg dksX9_not_1 22 rfl rfl
theorem dksX9_not_3 : cX9_not.data.toList.drop 69 = dktX9_not_3 := dk_seg dksX9_not_2 23 rfl rfl
theorem dksX9_not_4 : cX9_not.data.toList.drop 92 = dktX9_not_4 := dk_seg dksX9_not_3 23 rfl rfl
theorem dX9_not_0 : decode cX9_not 0 = .ok (.iconst 0, 1) := dk_3 (dk_at dksX9_not_0 0 rfl rfl)
theorem dX9_not_1 : decode cX9_not 1 = .ok (.istore_n 2, 1) := dk_61 (dk_at dksX9_not_0 1 rfl rfl)
theorem dX9_not_2 : decode cX9_not 2 = .ok (.aload_n 0, 1) := dk_42 (dk_at dksX9_not_0 2 rfl rfl)
theorem dX9_not_3 : decode cX9_not 3 = .ok (.ldc 237, 2) := dk_18 237 (dk_at dksX9_not_0 3 rfl rfl)
theorem dX9_not_5 : decode cX9_not 5 = .ok (.invokevirtual 112, 3) := dk_182 0 112 (dk_at dksX9_not_0 5 rfl rfl)
theorem dX9_not_8 : decode cX9_not 8 = .ok (.ifCond .eq 29, 3) := dk_153 0 29 (dk_at dksX9_not_0 8 rfl rfl)
theorem dX9_not_11 : decode cX9_not 11 = .ok (.aload_n 0, 1) := dk_42 (dk_at dksX9_not_0 11 rfl rfl)
theorem dX9_not_12 : decode cX9_not 12 = .ok (.iload_n 2, 1) := dk_28 (dk_at dksX9_not_0 12 rfl rfl)
theorem dX9_not_13 : decode cX9_not 13 = .ok (.bipush 6, 2) := dk_16 6 (dk_at dksX9_not_0 13 rfl rfl)
theorem dX9_not_15 : decode cX9_not 15 = .ok (.if_icmp .ge 7, 3) := dk_162 0 7 (dk_at dksX9_not_0 15 rfl rfl)
theorem dX9_not_18 : decode cX9_not 18 = .ok (.iconst 1, 1) := dk_4 (dk_at dksX9_not_0 18 rfl rfl)
theorem dX9_not_19 : decode cX9_not 19 = .ok (.goto 4, 3) := dk_167 0 4 (dk_at dksX9_not_0 19 rfl rfl)
theorem dX9_not_22 : decode cX9_not 22 = .ok (.iconst 0, 1) := dk_3 (dk_at dksX9_not_0 22 rfl rfl)
theorem dX9_not_23 : decode cX9_not 23 = .ok (.iconst 2, 1) := dk_5 (dk_at dksX9_not_0 23 rfl rfl)
theorem dX9_not_24 : decode cX9_not 24 = .ok (.invokevirtual 116, 3) := dk_182 0 116 (dk_at dksX9_not_1 0 rfl rfl)
theorem dX9_not_27 : decode cX9_not 27 = .ok (.aload_n 0, 1) := dk_42 (dk_at dksX9_not_1 3 rfl rfl)
theorem dX9_not_28 : decode cX9_not 28 = .ok (.invokevirtual 29, 3) := dk_182 0 29 (dk_at dksX9_not_1 4 rfl rfl)
theorem dX9_not_31 : decode cX9_not 31 = .ok (.iinc 2 1, 3) := dk_132 2 1 (dk_at dksX9_not_1 7 rfl rfl)
theorem dX9_not_34 : decode cX9_not 34 = .ok (.goto (-32), 3) := dk_167 255 224 (dk_at dksX9_not_1 10 rfl rfl)
theorem dX9_not_37 : decode cX9_not 37 = .ok (.aload_n 0, 1) := dk_42 (dk_at dksX9_not_1 13 rfl rfl)
theorem dX9_not_38 : decode cX9_not 38 = .ok (.iload_n 1, 1) := dk_27 (dk_at dksX9_not_1 14 rfl rfl)
theorem dX9_not_39 : decode cX9_not 39 = .ok (.invokevirtual 238, 3) := dk_182 0 238 (dk_at dksX9_not_1 15 rfl rfl)
theorem dX9_not_42 : decode cX9_not 42 = .ok (.astore_n 3, 1) := dk_78 (dk_at dksX9_not_1 18 rfl rfl)
theorem dX9_not_43 : decode cX9_not 43 = .ok (.aload_n 0, 1) := dk_42 (dk_at dksX9_not_1 19 rfl rfl)
theorem dX9_not_44 : decode cX9_not 44 = .ok (.ldc 241, 2) := dk_18 241 (dk_at dksX9_not_1 20 rfl rfl)
theorem dX9_not_46 : decode cX9_not 46 = .ok (.invokevirtual 112, 3) := dk_182 0 112 (dk_at dksX9_not_2 0 rfl rfl)
theorem dX9_not_49 : decode cX9_not 49 = .ok (.ifCond .ne 12, 3) := dk_154 0 12 (dk_at dksX9_not_2 3 rfl rfl)
theorem dX9_not_52 : decode cX9_not 52 = .ok (.aload_n 0, 1) := dk_42 (dk_at dksX9_not_2 6 rfl rfl)
theorem dX9_not_53 : decode cX9_not 53 = .ok (.ldc 243, 2) := dk_18 243 (dk_at dksX9_not_2 7 rfl rfl)
theorem dX9_not_55 : decode cX9_not 55 = .ok (.invokevirtual 112, 3) := dk_182 0 112 (dk_at dksX9_not_2 9 rfl rfl)
theorem dX9_not_58 : decode cX9_not 58 = .ok (.ifCond .eq 33, 3) := dk_153 0 33 (dk_at dksX9_not_2 12 rfl rfl)
theorem dX9_not_61 : decode cX9_not 61 = .ok (.aload_n 0, 1) := dk_42 (dk_at dksX9_not_2 15 rfl rfl)
theorem dX9_not_62 : decode cX9_not 62 = .ok (.getfield 11, 3) := dk_180 0 11 (dk_at dksX9_not_2 16 rfl rfl)
theorem dX9_not_65 : decode cX9_not 65 = .ok (.iconst 0, 1) := dk_3 (dk_at dksX9_not_2 19 rfl rfl)
theorem dX9_not_66 : decode cX9_not 66 = .ok (.invokevirtual 245, 3) := dk_182 0 245 (dk_at dksX9_not_2 20 rfl rfl)
theorem dX9_not_69 : decode cX9_not 69 = .ok (.istore 4, 2) := dk_54 4 (dk_at dksX9_not_3 0 rfl rfl)
theorem dX9_not_71 : decode cX9_not 71 = .ok (.aload_n 0, 1) := dk_42 (dk_at dksX9_not_3 2 rfl rfl)
theorem dX9_not_72 : decode cX9_not 72 = .ok (.invokevirtual 29, 3) := dk_182 0 29 (dk_at dksX9_not_3 3 rfl rfl)
theorem dX9_not_75 : decode cX9_not 75 = .ok (.new 228, 3) := dk_187 0 228 (dk_at dksX9_not_3 6 rfl rfl)
theorem dX9_not_78 : decode cX9_not 78 = .ok (.dup, 1) := dk_89 (dk_at dksX9_not_3 9 rfl rfl)
theorem dX9_not_79 : decode cX9_not 79 = .ok (.iload 4, 2) := dk_21 4 (dk_at dksX9_not_3 10 rfl rfl)
theorem dX9_not_81 : decode cX9_not 81 = .ok (.aload_n 3, 1) := dk_45 (dk_at dksX9_not_3 12 rfl rfl)
theorem dX9_not_82 : decode cX9_not 82 = .ok (.aload_n 0, 1) := dk_42 (dk_at dksX9_not_3 13 rfl rfl)
theorem dX9_not_83 : decode cX9_not 83 = .ok (.iload_n 1, 1) := dk_27 (dk_at dksX9_not_3 14 rfl rfl)
theorem dX9_not_84 : decode cX9_not 84 = .ok (.invokevirtual 238, 3) := dk_182 0 238 (dk_at dksX9_not_3 15 rfl rfl)
theorem dX9_not_87 : decode cX9_not 87 = .ok (.invokespecial 230, 3) := dk_183 0 230 (dk_at dksX9_not_3 18 rfl rfl)
theorem dX9_not_90 : decode cX9_not 90 = .ok (.astore_n 3, 1) := dk_78 (dk_at dksX9_not_3 21 rfl rfl)
theorem dX9_not_91 : decode cX9_not 91 = .ok (.iload_n 2, 1) := dk_28 (dk_at dksX9_not_3 22 rfl rfl)
theorem dX9_not_92 : decode cX9_not 92 = .ok (.ifCond .le 18, 3) := dk_158 0 18 (dk_at dksX9_not_4 0 rfl rfl)
theorem dX9_not_95 : decode cX9_not 95 = .ok (.new 249, 3) := dk_187 0 249 (dk_at dksX9_not_4 3 rfl rfl)
theorem dX9_not_98 : decode cX9_not 98 = .ok (.dup, 1) := dk_89 (dk_at dksX9_not_4 6 rfl rfl)
theorem dX9_not_99 : decode cX9_not 99 = .ok (.aload_n 3, 1) := dk_45 (dk_at dksX9_not_4 7 rfl rfl)
theorem dX9_not_100 : decode cX9_not 100 = .ok (.invokespecial 251, 3) := dk_183 0 251 (dk_at dksX9_not_4 8 rfl rfl)
theorem dX9_not_103 : decode cX9_not 103 = .ok (.astore_n 3, 1) := dk_78 (dk_at dksX9_not_4 11 rfl rfl)
theorem dX9_not_104 : decode cX9_not 104 = .ok (.iinc 2 (-1), 3) := dk_132 2 255 (dk_at dksX9_not_4 12 rfl rfl)
theorem dX9_not_107 : decode cX9_not 107 = .ok (.goto (-16), 3) := dk_167 255 240 (dk_at dksX9_not_4 15 rfl rfl)
theorem dX9_not_110 : decode cX9_not 110 = .ok (.aload_n 3, 1) := dk_45 (dk_at dksX9_not_4 18 rfl rfl)
theorem dX9_not_111 : decode cX9_not 111 = .ok (.areturn, 1) := dk_176 (dk_at dksX9_not_4 19 rfl rfl)
abbrev cX9_sum : ByteArray := prog_10_method_20_code
def yX9_sum : MethodName := ⟨RX9, "sum", "(I)LApartBench$Expr;"⟩
def dkwX9_sum_2 : List UInt8 := [182, 0, 254, 183, 0, 230, 77, 167, 255, 208, 44, 176]
abbrev dktX9_sum_2 : List UInt8 := dkwX9_sum_2 ++ []
def dkwX9_sum_1 : List UInt8 := [153, 0, 34, 42, 180, 0, 11, 3, 182, 0, 245, 62, 42, 182, 0, 29, 187, 0, 228, 89, 29, 44, 42, 27]
abbrev dktX9_sum_1 : List UInt8 := dkwX9_sum_1 ++ dktX9_sum_2
def dkwX9_sum_0 : List UInt8 := [42, 27, 182, 0, 254, 77, 42, 19, 1, 1, 182, 0, 112, 154, 0, 13, 42, 19, 1, 3, 182, 0, 112]
abbrev dktX9_sum_0 : List UInt8 := dkwX9_sum_0 ++ dktX9_sum_1
theorem dksX9_sum_0 : cX9_sum.data.toList.drop 0 = dktX9_sum_0 := by decide +kernel
theorem dksX9_sum_1 : cX9_sum.data.toList.drop 23 = dktX9_sum_1 := dk_seg dksX9_sum_0 23 rfl rfl
theorem dksX9_sum_2 : cX9_sum.data.toList.drop 47 = dktX9_sum_2 := dk_seg dksX9_sum_1 24 rfl rfl
theorem dX9_sum_0 : decode cX9_sum 0 = .ok (.aload_n 0, 1) := dk_42 (dk_at dksX9_sum_0 0 rfl rfl)
theorem dX9_sum_1 : decode cX9_sum 1 = .ok (.iload_n 1, 1) := dk_27 (dk_at dksX9_sum_0 1 rfl rfl)
theorem dX9_sum_2 : decode cX9_sum 2 = .ok (.invokevirtual 254, 3) := dk_182 0 254 (dk_at dksX9_sum_0 2 rfl rfl)
theorem dX9_sum_5 : decode cX9_sum 5 = .ok (.astore_n 2, 1) := dk_77 (dk_at dksX9_sum_0 5 rfl rfl)
theorem dX9_sum_6 : decode cX9_sum 6 = .ok (.aload_n 0, 1) := dk_42 (dk_at dksX9_sum_0 6 rfl rfl)
theorem dX9_sum_7 : decode cX9_sum 7 = .ok (.ldc_w 257, 3) := dk_19 1 1 (dk_at dksX9_sum_0 7 rfl rfl)
theorem dX9_sum_10 : decode cX9_sum 10 = .ok (.invokevirtual 112, 3) := dk_182 0 112 (dk_at dksX9_sum_0 10 rfl rfl)
theorem dX9_sum_13 : decode cX9_sum 13 = .ok (.ifCond .ne 13, 3) := dk_154 0 13 (dk_at dksX9_sum_0 13 rfl rfl)
theorem dX9_sum_16 : decode cX9_sum 16 = .ok (.aload_n 0, 1) := dk_42 (dk_at dksX9_sum_0 16 rfl rfl)
theorem dX9_sum_17 : decode cX9_sum 17 = .ok (.ldc_w 259, 3) := dk_19 1 3 (dk_at dksX9_sum_0 17 rfl rfl)
theorem dX9_sum_20 : decode cX9_sum 20 = .ok (.invokevirtual 112, 3) := dk_182 0 112 (dk_at dksX9_sum_0 20 rfl rfl)
theorem dX9_sum_23 : decode cX9_sum 23 = .ok (.ifCond .eq 34, 3) := dk_153 0 34 (dk_at dksX9_sum_1 0 rfl rfl)
theorem dX9_sum_26 : decode cX9_sum 26 = .ok (.aload_n 0, 1) := dk_42 (dk_at dksX9_sum_1 3 rfl rfl)
theorem dX9_sum_27 : decode cX9_sum 27 = .ok (.getfield 11, 3) := dk_180 0 11 (dk_at dksX9_sum_1 4 rfl rfl)
theorem dX9_sum_30 : decode cX9_sum 30 = .ok (.iconst 0, 1) := dk_3 (dk_at dksX9_sum_1 7 rfl rfl)
theorem dX9_sum_31 : decode cX9_sum 31 = .ok (.invokevirtual 245, 3) := dk_182 0 245 (dk_at dksX9_sum_1 8 rfl rfl)
theorem dX9_sum_34 : decode cX9_sum 34 = .ok (.istore_n 3, 1) := dk_62 (dk_at dksX9_sum_1 11 rfl rfl)
theorem dX9_sum_35 : decode cX9_sum 35 = .ok (.aload_n 0, 1) := dk_42 (dk_at dksX9_sum_1 12 rfl rfl)
theorem dX9_sum_36 : decode cX9_sum 36 = .ok (.invokevirtual 29, 3) := dk_182 0 29 (dk_at dksX9_sum_1 13 rfl rfl)
theorem dX9_sum_39 : decode cX9_sum 39 = .ok (.new 228, 3) := dk_187 0 228 (dk_at dksX9_sum_1 16 rfl rfl)
theorem dX9_sum_42 : decode cX9_sum 42 = .ok (.dup, 1) := dk_89 (dk_at dksX9_sum_1 19 rfl rfl)
theorem dX9_sum_43 : decode cX9_sum 43 = .ok (.iload_n 3, 1) := dk_29 (dk_at dksX9_sum_1 20 rfl rfl)
theorem dX9_sum_44 : decode cX9_sum 44 = .ok (.aload_n 2, 1) := dk_44 (dk_at dksX9_sum_1 21 rfl rfl)
theorem dX9_sum_45 : decode cX9_sum 45 = .ok (.aload_n 0, 1) := dk_42 (dk_at dksX9_sum_1 22 rfl rfl)
theorem dX9_sum_46 : decode cX9_sum 46 = .ok (.iload_n 1, 1) := dk_27 (dk_at dksX9_sum_1 23 rfl rfl)
theorem dX9_sum_47 : decode cX9_sum 47 = .ok (.invokevirtual 254, 3) := dk_182 0 254 (dk_at dksX9_sum_2 0 rfl rfl)
theorem dX9_sum_50 : decode cX9_sum 50 = .ok (.invokespecial 230, 3) := dk_183 0 230 (dk_at dksX9_sum_2 3 rfl rfl)
theorem dX9_sum_53 : decode cX9_sum 53 = .ok (.astore_n 2, 1) := dk_77 (dk_at dksX9_sum_2 6 rfl rfl)
theorem dX9_sum_54 : decode cX9_sum 54 = .ok (.goto (-48), 3) := dk_167 255 208 (dk_at dksX9_sum_2 7 rfl rfl)
theorem dX9_sum_57 : decode cX9_sum 57 = .ok (.aload_n 2, 1) := dk_44 (dk_at dksX9_sum_2 10 rfl rfl)
theorem dX9_sum_58 : decode cX9_sum 58 = .ok (.areturn, 1) := dk_176 (dk_at dksX9_sum_2 11 rfl rfl)
abbrev cX9_product : ByteArray := prog_10_method_21_code
def yX9_product : MethodName := ⟨RX9, "product", "(I)LApartBench$Expr;"⟩
def dkwX9_product_2 : List UInt8 := [182, 1, 5, 183, 0, 230, 77, 167, 255, 208, 44, 176]
abbrev dktX9_product_2 : List UInt8 := dkwX9_product_2 ++ []
def dkwX9_product_1 : List UInt8 := [153, 0, 34, 42, 180, 0, 11, 3, 182, 0, 245, 62, 42, 182, 0, 29, 187, 0, 228, 89, 29, 44, 42, 27]
abbrev dktX9_product_1 : List UInt8 := dkwX9_product_1 ++ dktX9_product_2
def dkwX9_product_0 : List UInt8 := [42, 27, 182, 1, 5, 77, 42, 19, 1, 8, 182, 0, 112, 154, 0, 13, 42, 19, 1, 10, 182, 0, 112]
abbrev dktX9_product_0 : List UInt8 := dkwX9_product_0 ++ dktX9_product_1
theorem dksX9_product_0 : cX9_product.data.toList.drop 0 = dktX9_product_0 := by decide +kernel
theorem dksX9_product_1 : cX9_product.data.toList.drop 23 = dktX9_product_1 := dk_seg dksX9_product_0 23 rfl rfl
theorem dksX9_product_2 : cX9_product.data.toList.drop 47 = dktX9_product_2 := dk_seg dksX9_product_1 24 rfl rfl
theorem dX9_product_0 : decode cX9_product 0 = .ok (.aload_n 0, 1) := dk_42 (dk_at dksX9_product_0 0 rfl rfl)
theorem dX9_product_1 : decode cX9_product 1 = .ok (.iload_n 1, 1) := dk_27 (dk_at dksX9_product_0 1 rfl rfl)
theorem dX9_product_2 : decode cX9_product 2 = .ok (.invokevirtual 261, 3) := dk_182 1 5 (dk_at dksX9_product_0 2 rfl rfl)
theorem dX9_product_5 : decode cX9_product 5 = .ok (.astore_n 2, 1) := dk_77 (dk_at dksX9_product_0 5 rfl rfl)
theorem dX9_product_6 : decode cX9_product 6 = .ok (.aload_n 0, 1) := dk_42 (dk_at dksX9_product_0 6 rfl rfl)
theorem dX9_product_7 : decode cX9_product 7 = .ok (.ldc_w 264, 3) := dk_19 1 8 (dk_at dksX9_product_0 7 rfl rfl)
theorem dX9_product_10 : decode cX9_product 10 = .ok (.invokevirtual 112, 3) := dk_182 0 112 (dk_at dksX9_product_0 10 rfl rfl)
theorem dX9_product_13 : decode cX9_product 13 = .ok (.ifCond .ne 13, 3) := dk_154 0 13 (dk_at dksX9_product_0 13 rfl rfl)
theorem dX9_product_16 : decode cX9_product 16 = .ok (.aload_n 0, 1) := dk_42 (dk_at dksX9_product_0 16 rfl rfl)
theorem dX9_product_17 : decode cX9_product 17 = .ok (.ldc_w 266, 3) := dk_19 1 10 (dk_at dksX9_product_0 17 rfl rfl)
theorem dX9_product_20 : decode cX9_product 20 = .ok (.invokevirtual 112, 3) := dk_182 0 112 (dk_at dksX9_product_0 20 rfl rfl)
theorem dX9_product_23 : decode cX9_product 23 = .ok (.ifCond .eq 34, 3) := dk_153 0 34 (dk_at dksX9_product_1 0 rfl rfl)
theorem dX9_product_26 : decode cX9_product 26 = .ok (.aload_n 0, 1) := dk_42 (dk_at dksX9_product_1 3 rfl rfl)
theorem dX9_product_27 : decode cX9_product 27 = .ok (.getfield 11, 3) := dk_180 0 11 (dk_at dksX9_product_1 4 rfl rfl)
theorem dX9_product_30 : decode cX9_product 30 = .ok (.iconst 0, 1) := dk_3 (dk_at dksX9_product_1 7 rfl rfl)
theorem dX9_product_31 : decode cX9_product 31 = .ok (.invokevirtual 245, 3) := dk_182 0 245 (dk_at dksX9_product_1 8 rfl rfl)
theorem dX9_product_34 : decode cX9_product 34 = .ok (.istore_n 3, 1) := dk_62 (dk_at dksX9_product_1 11 rfl rfl)
theorem dX9_product_35 : decode cX9_product 35 = .ok (.aload_n 0, 1) := dk_42 (dk_at dksX9_product_1 12 rfl rfl)
theorem dX9_product_36 : decode cX9_product 36 = .ok (.invokevirtual 29, 3) := dk_182 0 29 (dk_at dksX9_product_1 13 rfl rfl)
theorem dX9_product_39 : decode cX9_product 39 = .ok (.new 228, 3) := dk_187 0 228 (dk_at dksX9_product_1 16 rfl rfl)
theorem dX9_product_42 : decode cX9_product 42 = .ok (.dup, 1) := dk_89 (dk_at dksX9_product_1 19 rfl rfl)
theorem dX9_product_43 : decode cX9_product 43 = .ok (.iload_n 3, 1) := dk_29 (dk_at dksX9_product_1 20 rfl rfl)
theorem dX9_product_44 : decode cX9_product 44 = .ok (.aload_n 2, 1) := dk_44 (dk_at dksX9_product_1 21 rfl rfl)
theorem dX9_product_45 : decode cX9_product 45 = .ok (.aload_n 0, 1) := dk_42 (dk_at dksX9_product_1 22 rfl rfl)
theorem dX9_product_46 : decode cX9_product 46 = .ok (.iload_n 1, 1) := dk_27 (dk_at dksX9_product_1 23 rfl rfl)
theorem dX9_product_47 : decode cX9_product 47 = .ok (.invokevirtual 261, 3) := dk_182 1 5 (dk_at dksX9_product_2 0 rfl rfl)
theorem dX9_product_50 : decode cX9_product 50 = .ok (.invokespecial 230, 3) := dk_183 0 230 (dk_at dksX9_product_2 3 rfl rfl)
theorem dX9_product_53 : decode cX9_product 53 = .ok (.astore_n 2, 1) := dk_77 (dk_at dksX9_product_2 6 rfl rfl)
theorem dX9_product_54 : decode cX9_product 54 = .ok (.goto (-48), 3) := dk_167 255 208 (dk_at dksX9_product_2 7 rfl rfl)
theorem dX9_product_57 : decode cX9_product 57 = .ok (.aload_n 2, 1) := dk_44 (dk_at dksX9_product_2 10 rfl rfl)
theorem dX9_product_58 : decode cX9_product 58 = .ok (.areturn, 1) := dk_176 (dk_at dksX9_product_2 11 rfl rfl)
abbrev cX9_part : ByteArray := prog_10_method_22_code
def yX9_part : MethodName := ⟨RX9, "part", "(I)LApartBench$Expr;"⟩
def dkwX9_part_4 : List UInt8 := [167, 0, 4, 3, 6, 182, 0, 116, 42, 182, 0, 29, 187, 1, 20, 89, 44, 183, 1, 22, 176]
abbrev dktX9_part_4 : List UInt8 := dkwX9_part_4 ++ []
def dkwX9_part_3 : List UInt8 := [167, 0, 4, 3, 4, 182, 0, 116, 42, 180, 0, 11, 184, 1, 17, 77, 42, 44, 198, 0, 7, 4]
abbrev dktX9_part_3 : List UInt8 := dkwX9_part_3 ++ dktX9_part_4
def dkwX9_part_2 : List UInt8 := [77, 42, 19, 1, 15, 182, 0, 188, 44, 176, 42, 42, 180, 0, 52, 178, 0, 76, 166, 0, 7, 4]
abbrev dktX9_part_2 : List UInt8 := dkwX9_part_2 ++ dktX9_part_3
def dkwX9_part_1 : List UInt8 := [183, 1, 14, 176, 42, 18, 221, 182, 0, 112, 153, 0, 24, 42, 182, 0, 29, 42, 27, 4, 96, 182, 0, 155]
abbrev dktX9_part_1 : List UInt8 := dkwX9_part_1 ++ dktX9_part_2
def dkwX9_part_0 : List UInt8 := [42, 180, 0, 52, 178, 0, 85, 166, 0, 19, 187, 1, 12, 89, 42, 3, 17, 39, 15, 182, 0, 147]
abbrev dktX9_part_0 : List UInt8 := dkwX9_part_0 ++ dktX9_part_1
theorem dksX9_part_0 : cX9_part.data.toList.drop 0 = dktX9_part_0 := by decide +kernel
theorem dksX9_part_1 : cX9_part.data.toList.drop 22 = dktX9_part_1 := dk_seg dksX9_part_0 22 rfl rfl
theorem dksX9_part_2 : cX9_part.data.toList.drop 46 = dktX9_part_2 := dk_seg dksX9_part_1 24 rfl rfl
theorem dksX9_part_3 : cX9_part.data.toList.drop 68 = dktX9_part_3 := dk_seg dksX9_part_2 22 rfl rfl
theorem dksX9_part_4 : cX9_part.data.toList.drop 90 = dktX9_part_4 := dk_seg dksX9_part_3 22 rfl rfl
theorem dX9_part_0 : decode cX9_part 0 = .ok (.aload_n 0, 1) := dk_42 (dk_at dksX9_part_0 0 rfl rfl)
theorem dX9_part_1 : decode cX9_part 1 = .ok (.getfield 52, 3) := dk_180 0 52 (dk_at dksX9_part_0 1 rfl rfl)
theorem dX9_part_4 : decode cX9_part 4 = .ok (.getstatic 85, 3) := dk_178 0 85 (dk_at dksX9_part_0 4 rfl rfl)
theorem dX9_part_7 : decode cX9_part 7 = .ok (.if_acmp .ne 19, 3) := dk_166 0 19 (dk_at dksX9_part_0 7 rfl rfl)
theorem dX9_part_10 : decode cX9_part 10 = .ok (.new 268, 3) := dk_187 1 12 (dk_at dksX9_part_0 10 rfl rfl)
theorem dX9_part_13 : decode cX9_part 13 = .ok (.dup, 1) := dk_89 (dk_at dksX9_part_0 13 rfl rfl)
theorem dX9_part_14 : decode cX9_part 14 = .ok (.aload_n 0, 1) := dk_42 (dk_at dksX9_part_0 14 rfl rfl)
theorem dX9_part_15 : decode cX9_part 15 = .ok (.iconst 0, 1) := dk_3 (dk_at dksX9_part_0 15 rfl rfl)
theorem dX9_part_16 : decode cX9_part 16 = .ok (.sipush 9999, 3) := dk_17 39 15 (dk_at dksX9_part_0 16 rfl rfl)
theorem dX9_part_19 : decode cX9_part 19 = .ok (.invokevirtual 147, 3) := dk_182 0 147 (dk_at dksX9_part_0 19 rfl rfl)
theorem dX9_part_22 : decode cX9_part 22 = .ok (.invokespecial 270, 3) := dk_183 1 14 (dk_at dksX9_part_1 0 rfl rfl)
theorem dX9_part_25 : decode cX9_part 25 = .ok (.areturn, 1) := dk_176 (dk_at dksX9_part_1 3 rfl rfl)
theorem dX9_part_26 : decode cX9_part 26 = .ok (.aload_n 0, 1) := dk_42 (dk_at dksX9_part_1 4 rfl rfl)
theorem dX9_part_27 : decode cX9_part 27 = .ok (.ldc 221, 2) := dk_18 221 (dk_at dksX9_part_1 5 rfl rfl)
theorem dX9_part_29 : decode cX9_part 29 = .ok (.invokevirtual 112, 3) := dk_182 0 112 (dk_at dksX9_part_1 7 rfl rfl)
theorem dX9_part_32 : decode cX9_part 32 = .ok (.ifCond .eq 24, 3) := dk_153 0 24 (dk_at dksX9_part_1 10 rfl rfl)
theorem dX9_part_35 : decode cX9_part 35 = .ok (.aload_n 0, 1) := dk_42 (dk_at dksX9_part_1 13 rfl rfl)
theorem dX9_part_36 : decode cX9_part 36 = .ok (.invokevirtual 29, 3) := dk_182 0 29 (dk_at dksX9_part_1 14 rfl rfl)
theorem dX9_part_39 : decode cX9_part 39 = .ok (.aload_n 0, 1) := dk_42 (dk_at dksX9_part_1 17 rfl rfl)
theorem dX9_part_40 : decode cX9_part 40 = .ok (.iload_n 1, 1) := dk_27 (dk_at dksX9_part_1 18 rfl rfl)
theorem dX9_part_41 : decode cX9_part 41 = .ok (.iconst 1, 1) := dk_4 (dk_at dksX9_part_1 19 rfl rfl)
theorem dX9_part_42 : decode cX9_part 42 = .ok (.iadd, 1) := dk_96 (dk_at dksX9_part_1 20 rfl rfl)
theorem dX9_part_43 : decode cX9_part 43 = .ok (.invokevirtual 155, 3) := dk_182 0 155 (dk_at dksX9_part_1 21 rfl rfl)
theorem dX9_part_46 : decode cX9_part 46 = .ok (.astore_n 2, 1) := dk_77 (dk_at dksX9_part_2 0 rfl rfl)
theorem dX9_part_47 : decode cX9_part 47 = .ok (.aload_n 0, 1) := dk_42 (dk_at dksX9_part_2 1 rfl rfl)
theorem dX9_part_48 : decode cX9_part 48 = .ok (.ldc_w 271, 3) := dk_19 1 15 (dk_at dksX9_part_2 2 rfl rfl)
theorem dX9_part_51 : decode cX9_part 51 = .ok (.invokevirtual 188, 3) := dk_182 0 188 (dk_at dksX9_part_2 5 rfl rfl)
theorem dX9_part_54 : decode cX9_part 54 = .ok (.aload_n 2, 1) := dk_44 (dk_at dksX9_part_2 8 rfl rfl)
theorem dX9_part_55 : decode cX9_part 55 = .ok (.areturn, 1) := dk_176 (dk_at dksX9_part_2 9 rfl rfl)
theorem dX9_part_56 : decode cX9_part 56 = .ok (.aload_n 0, 1) := dk_42 (dk_at dksX9_part_2 10 rfl rfl)
theorem dX9_part_57 : decode cX9_part 57 = .ok (.aload_n 0, 1) := dk_42 (dk_at dksX9_part_2 11 rfl rfl)
theorem dX9_part_58 : decode cX9_part 58 = .ok (.getfield 52, 3) := dk_180 0 52 (dk_at dksX9_part_2 12 rfl rfl)
theorem dX9_part_61 : decode cX9_part 61 = .ok (.getstatic 76, 3) := dk_178 0 76 (dk_at dksX9_part_2 15 rfl rfl)
theorem dX9_part_64 : decode cX9_part 64 = .ok (.if_acmp .ne 7, 3) := dk_166 0 7 (dk_at dksX9_part_2 18 rfl rfl)
theorem dX9_part_67 : decode cX9_part 67 = .ok (.iconst 1, 1) := dk_4 (dk_at dksX9_part_2 21 rfl rfl)
theorem dX9_part_68 : decode cX9_part 68 = .ok (.goto 4, 3) := dk_167 0 4 (dk_at dksX9_part_3 0 rfl rfl)
theorem dX9_part_71 : decode cX9_part 71 = .ok (.iconst 0, 1) := dk_3 (dk_at dksX9_part_3 3 rfl rfl)
theorem dX9_part_72 : decode cX9_part 72 = .ok (.iconst 1, 1) := dk_4 (dk_at dksX9_part_3 4 rfl rfl)
theorem dX9_part_73 : decode cX9_part 73 = .ok (.invokevirtual 116, 3) := dk_182 0 116 (dk_at dksX9_part_3 5 rfl rfl)
theorem dX9_part_76 : decode cX9_part 76 = .ok (.aload_n 0, 1) := dk_42 (dk_at dksX9_part_3 8 rfl rfl)
theorem dX9_part_77 : decode cX9_part 77 = .ok (.getfield 11, 3) := dk_180 0 11 (dk_at dksX9_part_3 9 rfl rfl)
theorem dX9_part_80 : decode cX9_part 80 = .ok (.invokestatic 273, 3) := dk_184 1 17 (dk_at dksX9_part_3 12 rfl rfl)
theorem dX9_part_83 : decode cX9_part 83 = .ok (.astore_n 2, 1) := dk_77 (dk_at dksX9_part_3 15 rfl rfl)
theorem dX9_part_84 : decode cX9_part 84 = .ok (.aload_n 0, 1) := dk_42 (dk_at dksX9_part_3 16 rfl rfl)
theorem dX9_part_85 : decode cX9_part 85 = .ok (.aload_n 2, 1) := dk_44 (dk_at dksX9_part_3 17 rfl rfl)
theorem dX9_part_86 : decode cX9_part 86 = .ok (.ifnull 7, 3) := dk_198 0 7 (dk_at dksX9_part_3 18 rfl rfl)
theorem dX9_part_89 : decode cX9_part 89 = .ok (.iconst 1, 1) := dk_4 (dk_at dksX9_part_3 21 rfl rfl)
theorem dX9_part_90 : decode cX9_part 90 = .ok (.goto 4, 3) := dk_167 0 4 (dk_at dksX9_part_4 0 rfl rfl)
theorem dX9_part_93 : decode cX9_part 93 = .ok (.iconst 0, 1) := dk_3 (dk_at dksX9_part_4 3 rfl rfl)
theorem dX9_part_94 : decode cX9_part 94 = .ok (.iconst 3, 1) := dk_6 (dk_at dksX9_part_4 4 rfl rfl)
theorem dX9_part_95 : decode cX9_part 95 = .ok (.invokevirtual 116, 3) := dk_182 0 116 (dk_at dksX9_part_4 5 rfl rfl)
theorem dX9_part_98 : decode cX9_part 98 = .ok (.aload_n 0, 1) := dk_42 (dk_at dksX9_part_4 8 rfl rfl)
theorem dX9_part_99 : decode cX9_part 99 = .ok (.invokevirtual 29, 3) := dk_182 0 29 (dk_at dksX9_part_4 9 rfl rfl)
theorem dX9_part_102 : decode cX9_part 102 = .ok (.new 276, 3) := dk_187 1 20 (dk_at dksX9_part_4 12 rfl rfl)
theorem dX9_part_105 : decode cX9_part 105 = .ok (.dup, 1) := dk_89 (dk_at dksX9_part_4 15 rfl rfl)
theorem dX9_part_106 : decode cX9_part 106 = .ok (.aload_n 2, 1) := dk_44 (dk_at dksX9_part_4 16 rfl rfl)
theorem dX9_part_107 : decode cX9_part 107 = .ok (.invokespecial 278, 3) := dk_183 1 22 (dk_at dksX9_part_4 17 rfl rfl)
theorem dX9_part_110 : decode cX9_part 110 = .ok (.areturn, 1) := dk_176 (dk_at dksX9_part_4 20 rfl rfl)
abbrev cX9_need : ByteArray := prog_10_method_9_code
def yX9_need : MethodName := ⟨RX9, "need", "(Ljava/lang/String;)V"⟩
def dkwX9_need_0 : List UInt8 := [42, 42, 43, 182, 0, 112, 4, 182, 0, 116, 42, 182, 0, 29, 177]
abbrev dktX9_need_0 : List UInt8 := dkwX9_need_0 ++ []
theorem dksX9_need_0 : cX9_need.data.toList.drop 0 = dktX9_need_0 := by decide +kernel
theorem dX9_need_0 : decode cX9_need 0 = .ok (.aload_n 0, 1) := dk_42 (dk_at dksX9_need_0 0 rfl rfl)
theorem dX9_need_1 : decode cX9_need 1 = .ok (.aload_n 0, 1) := dk_42 (dk_at dksX9_need_0 1 rfl rfl)
theorem dX9_need_2 : decode cX9_need 2 = .ok (.aload_n 1, 1) := dk_43 (dk_at dksX9_need_0 2 rfl rfl)
theorem dX9_need_3 : decode cX9_need 3 = .ok (.invokevirtual 112, 3) := dk_182 0 112 (dk_at dksX9_need_0 3 rfl rfl)
theorem dX9_need_6 : decode cX9_need 6 = .ok (.iconst 1, 1) := dk_4 (dk_at dksX9_need_0 6 rfl rfl)
theorem dX9_need_7 : decode cX9_need 7 = .ok (.invokevirtual 116, 3) := dk_182 0 116 (dk_at dksX9_need_0 7 rfl rfl)
theorem dX9_need_10 : decode cX9_need 10 = .ok (.aload_n 0, 1) := dk_42 (dk_at dksX9_need_0 10 rfl rfl)
theorem dX9_need_11 : decode cX9_need 11 = .ok (.invokevirtual 29, 3) := dk_182 0 29 (dk_at dksX9_need_0 11 rfl rfl)
theorem dX9_need_14 : decode cX9_need 14 = .ok (.return_, 1) := dk_177 (dk_at dksX9_need_0 14 rfl rfl)
abbrev cX9_valueOf : ByteArray := prog_10_method_23_code
def yX9_valueOf : MethodName := ⟨RX9, "valueOf", "(Ljava/lang/String;)LApartBench$Value;"⟩
def dkwX9_valueOf_3 : List UInt8 := [176]
abbrev dktX9_valueOf_3 : List UInt8 := dkwX9_valueOf_3 ++ []
def dkwX9_valueOf_2 : List UInt8 := [153, 0, 7, 178, 1, 43, 176, 42, 19, 1, 46, 182, 0, 103, 153, 0, 9, 178, 1, 48, 167, 0, 4, 1]
abbrev dktX9_valueOf_2 : List UInt8 := dkwX9_valueOf_2 ++ dktX9_valueOf_3
def dkwX9_valueOf_1 : List UInt8 := [178, 1, 35, 176, 42, 19, 1, 38, 182, 0, 103, 153, 0, 7, 178, 1, 40, 176, 42, 18, 123, 182, 0, 103]
abbrev dktX9_valueOf_1 : List UInt8 := dkwX9_valueOf_1 ++ dktX9_valueOf_2
def dkwX9_valueOf_0 : List UInt8 := [42, 19, 1, 25, 182, 0, 103, 153, 0, 7, 178, 1, 27, 176, 42, 19, 1, 33, 182, 0, 103, 153, 0, 7]
abbrev dktX9_valueOf_0 : List UInt8 := dkwX9_valueOf_0 ++ dktX9_valueOf_1
theorem dksX9_valueOf_0 : cX9_valueOf.data.toList.drop 0 = dktX9_valueOf_0 := by decide +kernel
theorem dksX9_valueOf_1 : cX9_valueOf.data.toList.drop 24 = dktX9_valueOf_1 := dk_seg dksX9_valueOf_0 24 rfl rfl
theorem dksX9_valueOf_2 : cX9_valueOf.data.toList.drop 48 = dktX9_valueOf_2 := dk_seg dksX9_valueOf_1 24 rfl rfl
theorem dksX9_valueOf_3 : cX9_valueOf.data.toList.drop 72 = dktX9_valueOf_3 := dk_seg dksX9_valueOf_2 24 rfl rfl
theorem dX9_valueOf_0 : decode cX9_valueOf 0 = .ok (.aload_n 0, 1) := dk_42 (dk_at dksX9_valueOf_0 0 rfl rfl)
theorem dX9_valueOf_1 : decode cX9_valueOf 1 = .ok (.ldc_w 281, 3) := dk_19 1 25 (dk_at dksX9_valueOf_0 1 rfl rfl)
theorem dX9_valueOf_4 : decode cX9_valueOf 4 = .ok (.invokevirtual 103, 3) := dk_182 0 103 (dk_at dksX9_valueOf_0 4 rfl rfl)
theorem dX9_valueOf_7 : decode cX9_valueOf 7 = .ok (.ifCond .eq 7, 3) := dk_153 0 7 (dk_at dksX9_valueOf_0 7 rfl rfl)
theorem dX9_valueOf_10 : decode cX9_valueOf 10 = .ok (.getstatic 283, 3) := dk_178 1 27 (dk_at dksX9_valueOf_0 10 rfl rfl)
theorem dX9_valueOf_13 : decode cX9_valueOf 13 = .ok (.areturn, 1) := dk_176 (dk_at dksX9_valueOf_0 13 rfl rfl)
theorem dX9_valueOf_14 : decode cX9_valueOf 14 = .ok (.aload_n 0, 1) := dk_42 (dk_at dksX9_valueOf_0 14 rfl rfl)
theorem dX9_valueOf_15 : decode cX9_valueOf 15 = .ok (.ldc_w 289, 3) := dk_19 1 33 (dk_at dksX9_valueOf_0 15 rfl rfl)
theorem dX9_valueOf_18 : decode cX9_valueOf 18 = .ok (.invokevirtual 103, 3) := dk_182 0 103 (dk_at dksX9_valueOf_0 18 rfl rfl)
theorem dX9_valueOf_21 : decode cX9_valueOf 21 = .ok (.ifCond .eq 7, 3) := dk_153 0 7 (dk_at dksX9_valueOf_0 21 rfl rfl)
theorem dX9_valueOf_24 : decode cX9_valueOf 24 = .ok (.getstatic 291, 3) := dk_178 1 35 (dk_at dksX9_valueOf_1 0 rfl rfl)
theorem dX9_valueOf_27 : decode cX9_valueOf 27 = .ok (.areturn, 1) := dk_176 (dk_at dksX9_valueOf_1 3 rfl rfl)
theorem dX9_valueOf_28 : decode cX9_valueOf 28 = .ok (.aload_n 0, 1) := dk_42 (dk_at dksX9_valueOf_1 4 rfl rfl)
theorem dX9_valueOf_29 : decode cX9_valueOf 29 = .ok (.ldc_w 294, 3) := dk_19 1 38 (dk_at dksX9_valueOf_1 5 rfl rfl)
theorem dX9_valueOf_32 : decode cX9_valueOf 32 = .ok (.invokevirtual 103, 3) := dk_182 0 103 (dk_at dksX9_valueOf_1 8 rfl rfl)
theorem dX9_valueOf_35 : decode cX9_valueOf 35 = .ok (.ifCond .eq 7, 3) := dk_153 0 7 (dk_at dksX9_valueOf_1 11 rfl rfl)
theorem dX9_valueOf_38 : decode cX9_valueOf 38 = .ok (.getstatic 296, 3) := dk_178 1 40 (dk_at dksX9_valueOf_1 14 rfl rfl)
theorem dX9_valueOf_41 : decode cX9_valueOf 41 = .ok (.areturn, 1) := dk_176 (dk_at dksX9_valueOf_1 17 rfl rfl)
theorem dX9_valueOf_42 : decode cX9_valueOf 42 = .ok (.aload_n 0, 1) := dk_42 (dk_at dksX9_valueOf_1 18 rfl rfl)
theorem dX9_valueOf_43 : decode cX9_valueOf 43 = .ok (.ldc 123, 2) := dk_18 123 (dk_at dksX9_valueOf_1 19 rfl rfl)
theorem dX9_valueOf_45 : decode cX9_valueOf 45 = .ok (.invokevirtual 103, 3) := dk_182 0 103 (dk_at dksX9_valueOf_1 21 rfl rfl)
theorem dX9_valueOf_48 : decode cX9_valueOf 48 = .ok (.ifCond .eq 7, 3) := dk_153 0 7 (dk_at dksX9_valueOf_2 0 rfl rfl)
theorem dX9_valueOf_51 : decode cX9_valueOf 51 = .ok (.getstatic 299, 3) := dk_178 1 43 (dk_at dksX9_valueOf_2 3 rfl rfl)
theorem dX9_valueOf_54 : decode cX9_valueOf 54 = .ok (.areturn, 1) := dk_176 (dk_at dksX9_valueOf_2 6 rfl rfl)
theorem dX9_valueOf_55 : decode cX9_valueOf 55 = .ok (.aload_n 0, 1) := dk_42 (dk_at dksX9_valueOf_2 7 rfl rfl)
theorem dX9_valueOf_56 : decode cX9_valueOf 56 = .ok (.ldc_w 302, 3) := dk_19 1 46 (dk_at dksX9_valueOf_2 8 rfl rfl)
theorem dX9_valueOf_59 : decode cX9_valueOf 59 = .ok (.invokevirtual 103, 3) := dk_182 0 103 (dk_at dksX9_valueOf_2 11 rfl rfl)
theorem dX9_valueOf_62 : decode cX9_valueOf 62 = .ok (.ifCond .eq 9, 3) := dk_153 0 9 (dk_at dksX9_valueOf_2 14 rfl rfl)
theorem dX9_valueOf_65 : decode cX9_valueOf 65 = .ok (.getstatic 304, 3) := dk_178 1 48 (dk_at dksX9_valueOf_2 17 rfl rfl)
theorem dX9_valueOf_68 : decode cX9_valueOf 68 = .ok (.goto 4, 3) := dk_167 0 4 (dk_at dksX9_valueOf_2 20 rfl rfl)
theorem dX9_valueOf_71 : decode cX9_valueOf 71 = .ok (.aconst_null, 1) := dk_1 (dk_at dksX9_valueOf_2 23 rfl rfl)
theorem dX9_valueOf_72 : decode cX9_valueOf 72 = .ok (.areturn, 1) := dk_176 (dk_at dksX9_valueOf_3 0 rfl rfl)
abbrev cX9_cause : ByteArray := prog_10_method_16_code
def yX9_cause : MethodName := ⟨RX9, "cause", "(LApartBench$Land;)V"⟩
def dkwX9_cause_5 : List UInt8 := [180, 0, 164, 44, 182, 0, 218, 87, 177]
abbrev dktX9_cause_5 : List UInt8 := dkwX9_cause_5 ++ []
def dkwX9_cause_4 : List UInt8 := [21, 4, 42, 3, 16, 9, 182, 0, 147, 79, 132, 3, 1, 42, 180, 0, 52, 178, 0, 85, 165, 255, 167, 43]
abbrev dktX9_cause_4 : List UInt8 := dkwX9_cause_4 ++ dktX9_cause_5
def dkwX9_cause_3 : List UInt8 := [42, 44, 21, 4, 46, 2, 160, 0, 7, 4, 167, 0, 4, 3, 7, 182, 0, 116, 42, 182, 0, 29, 44]
abbrev dktX9_cause_3 : List UInt8 := dkwX9_cause_3 ++ dktX9_cause_4
def dkwX9_cause_2 : List UInt8 := [16, 6, 162, 0, 7, 4, 167, 0, 4, 3, 5, 182, 0, 116, 42, 43, 180, 0, 125, 182, 0, 195, 54, 4]
abbrev dktX9_cause_2 : List UInt8 := dkwX9_cause_2 ++ dktX9_cause_3
def dkwX9_cause_1 : List UInt8 := [62, 42, 42, 180, 0, 52, 178, 0, 85, 166, 0, 7, 4, 167, 0, 4, 3, 4, 182, 0, 116, 42, 29]
abbrev dktX9_cause_1 : List UInt8 := dkwX9_cause_1 ++ dktX9_cause_2
def dkwX9_cause_0 : List UInt8 := [16, 9, 188, 10, 77, 3, 62, 29, 16, 9, 162, 0, 13, 44, 29, 2, 79, 132, 3, 1, 167, 255, 243, 3]
abbrev dktX9_cause_0 : List UInt8 := dkwX9_cause_0 ++ dktX9_cause_1
theorem dksX9_cause_0 : cX9_cause.data.toList.drop 0 = dktX9_cause_0 := by decide +kernel
theorem dksX9_cause_1 : cX9_cause.data.toList.drop 24 = dktX9_cause_1 := dk_seg dksX9_cause_0 24 rfl rfl
theorem dksX9_cause_2 : cX9_cause.data.toList.drop 47 = dktX9_cause_2 := dk_seg dksX9_cause_1 23 rfl rfl
theorem dksX9_cause_3 : cX9_cause.data.toList.drop 71 = dktX9_cause_3 := dk_seg dksX9_cause_2 24 rfl rfl
theorem dksX9_cause_4 : cX9_cause.data.toList.drop 94 = dktX9_cause_4 := dk_seg dksX9_cause_3 23 rfl rfl
theorem dksX9_cause_5 : cX9_cause.data.toList.drop 118 = dktX9_cause_5 := dk_seg dksX9_cause_4 24 rfl rfl
theorem dX9_cause_0 : decode cX9_cause 0 = .ok (.bipush 9, 2) := dk_16 9 (dk_at dksX9_cause_0 0 rfl rfl)
theorem dX9_cause_2 : decode cX9_cause 2 = .ok (.newarray .int, 2) := dk_188_10 (dk_at dksX9_cause_0 2 rfl rfl)
theorem dX9_cause_4 : decode cX9_cause 4 = .ok (.astore_n 2, 1) := dk_77 (dk_at dksX9_cause_0 4 rfl rfl)
theorem dX9_cause_5 : decode cX9_cause 5 = .ok (.iconst 0, 1) := dk_3 (dk_at dksX9_cause_0 5 rfl rfl)
theorem dX9_cause_6 : decode cX9_cause 6 = .ok (.istore_n 3, 1) := dk_62 (dk_at dksX9_cause_0 6 rfl rfl)
theorem dX9_cause_7 : decode cX9_cause 7 = .ok (.iload_n 3, 1) := dk_29 (dk_at dksX9_cause_0 7 rfl rfl)
theorem dX9_cause_8 : decode cX9_cause 8 = .ok (.bipush 9, 2) := dk_16 9 (dk_at dksX9_cause_0 8 rfl rfl)
theorem dX9_cause_10 : decode cX9_cause 10 = .ok (.if_icmp .ge 13, 3) := dk_162 0 13 (dk_at dksX9_cause_0 10 rfl rfl)
theorem dX9_cause_13 : decode cX9_cause 13 = .ok (.aload_n 2, 1) := dk_44 (dk_at dksX9_cause_0 13 rfl rfl)
theorem dX9_cause_14 : decode cX9_cause 14 = .ok (.iload_n 3, 1) := dk_29 (dk_at dksX9_cause_0 14 rfl rfl)
theorem dX9_cause_15 : decode cX9_cause 15 = .ok (.iconst (-1), 1) := dk_2 (dk_at dksX9_cause_0 15 rfl rfl)
theorem dX9_cause_16 : decode cX9_cause 16 = .ok (.iastore, 1) := dk_79 (dk_at dksX9_cause_0 16 rfl rfl)
theorem dX9_cause_17 : decode cX9_cause 17 = .ok (.iinc 3 1, 3) := dk_132 3 1 (dk_at dksX9_cause_0 17 rfl rfl)
theorem dX9_cause_20 : decode cX9_cause 20 = .ok (.goto (-13), 3) := dk_167 255 243 (dk_at dksX9_cause_0 20 rfl rfl)
theorem dX9_cause_23 : decode cX9_cause 23 = .ok (.iconst 0, 1) := dk_3 (dk_at dksX9_cause_0 23 rfl rfl)
theorem dX9_cause_24 : decode cX9_cause 24 = .ok (.istore_n 3, 1) := dk_62 (dk_at dksX9_cause_1 0 rfl rfl)
theorem dX9_cause_25 : decode cX9_cause 25 = .ok (.aload_n 0, 1) := dk_42 (dk_at dksX9_cause_1 1 rfl rfl)
theorem dX9_cause_26 : decode cX9_cause 26 = .ok (.aload_n 0, 1) := dk_42 (dk_at dksX9_cause_1 2 rfl rfl)
theorem dX9_cause_27 : decode cX9_cause 27 = .ok (.getfield 52, 3) := dk_180 0 52 (dk_at dksX9_cause_1 3 rfl rfl)
theorem dX9_cause_30 : decode cX9_cause 30 = .ok (.getstatic 85, 3) := dk_178 0 85 (dk_at dksX9_cause_1 6 rfl rfl)
theorem dX9_cause_33 : decode cX9_cause 33 = .ok (.if_acmp .ne 7, 3) := dk_166 0 7 (dk_at dksX9_cause_1 9 rfl rfl)
theorem dX9_cause_36 : decode cX9_cause 36 = .ok (.iconst 1, 1) := dk_4 (dk_at dksX9_cause_1 12 rfl rfl)
theorem dX9_cause_37 : decode cX9_cause 37 = .ok (.goto 4, 3) := dk_167 0 4 (dk_at dksX9_cause_1 13 rfl rfl)
theorem dX9_cause_40 : decode cX9_cause 40 = .ok (.iconst 0, 1) := dk_3 (dk_at dksX9_cause_1 16 rfl rfl)
theorem dX9_cause_41 : decode cX9_cause 41 = .ok (.iconst 1, 1) := dk_4 (dk_at dksX9_cause_1 17 rfl rfl)
theorem dX9_cause_42 : decode cX9_cause 42 = .ok (.invokevirtual 116, 3) := dk_182 0 116 (dk_at dksX9_cause_1 18 rfl rfl)
theorem dX9_cause_45 : decode cX9_cause 45 = .ok (.aload_n 0, 1) := dk_42 (dk_at dksX9_cause_1 21 rfl rfl)
theorem dX9_cause_46 : decode cX9_cause 46 = .ok (.iload_n 3, 1) := dk_29 (dk_at dksX9_cause_1 22 rfl rfl)
theorem dX9_cause_47 : decode cX9_cause 47 = .ok (.bipush 6, 2) := dk_16 6 (dk_at dksX9_cause_2 0 rfl rfl)
theorem dX9_cause_49 : decode cX9_cause 49 = .ok (.if_icmp .ge 7, 3) := dk_162 0 7 (dk_at dksX9_cause_2 2 rfl rfl)
theorem dX9_cause_52 : decode cX9_cause 52 = .ok (.iconst 1, 1) := dk_4 (dk_at dksX9_cause_2 5 rfl rfl)
theorem dX9_cause_53 : decode cX9_cause 53 = .ok (.goto 4, 3) := dk_167 0 4 (dk_at dksX9_cause_2 6 rfl rfl)
theorem dX9_cause_56 : decode cX9_cause 56 = .ok (.iconst 0, 1) := dk_3 (dk_at dksX9_cause_2 9 rfl rfl)
theorem dX9_cause_57 : decode cX9_cause 57 = .ok (.iconst 2, 1) := dk_5 (dk_at dksX9_cause_2 10 rfl rfl)
theorem dX9_cause_58 : decode cX9_cause 58 = .ok (.invokevirtual 116, 3) := dk_182 0 116 (dk_at dksX9_cause_2 11 rfl rfl)
theorem dX9_cause_61 : decode cX9_cause 61 = .ok (.aload_n 0, 1) := dk_42 (dk_at dksX9_cause_2 14 rfl rfl)
theorem dX9_cause_62 : decode cX9_cause 62 = .ok (.aload_n 1, 1) := dk_43 (dk_at dksX9_cause_2 15 rfl rfl)
theorem dX9_cause_63 : decode cX9_cause 63 = .ok (.getfield 125, 3) := dk_180 0 125 (dk_at dksX9_cause_2 16 rfl rfl)
theorem dX9_cause_66 : decode cX9_cause 66 = .ok (.invokevirtual 195, 3) := dk_182 0 195 (dk_at dksX9_cause_2 19 rfl rfl)
theorem dX9_cause_69 : decode cX9_cause 69 = .ok (.istore 4, 2) := dk_54 4 (dk_at dksX9_cause_2 22 rfl rfl)
theorem dX9_cause_71 : decode cX9_cause 71 = .ok (.aload_n 0, 1) := dk_42 (dk_at dksX9_cause_3 0 rfl rfl)
theorem dX9_cause_72 : decode cX9_cause 72 = .ok (.aload_n 2, 1) := dk_44 (dk_at dksX9_cause_3 1 rfl rfl)
theorem dX9_cause_73 : decode cX9_cause 73 = .ok (.iload 4, 2) := dk_21 4 (dk_at dksX9_cause_3 2 rfl rfl)
theorem dX9_cause_75 : decode cX9_cause 75 = .ok (.iaload, 1) := dk_46 (dk_at dksX9_cause_3 4 rfl rfl)
theorem dX9_cause_76 : decode cX9_cause 76 = .ok (.iconst (-1), 1) := dk_2 (dk_at dksX9_cause_3 5 rfl rfl)
theorem dX9_cause_77 : decode cX9_cause 77 = .ok (.if_icmp .ne 7, 3) := dk_160 0 7 (dk_at dksX9_cause_3 6 rfl rfl)
theorem dX9_cause_80 : decode cX9_cause 80 = .ok (.iconst 1, 1) := dk_4 (dk_at dksX9_cause_3 9 rfl rfl)
theorem dX9_cause_81 : decode cX9_cause 81 = .ok (.goto 4, 3) := dk_167 0 4 (dk_at dksX9_cause_3 10 rfl rfl)
theorem dX9_cause_84 : decode cX9_cause 84 = .ok (.iconst 0, 1) := dk_3 (dk_at dksX9_cause_3 13 rfl rfl)
theorem dX9_cause_85 : decode cX9_cause 85 = .ok (.iconst 4, 1) := dk_7 (dk_at dksX9_cause_3 14 rfl rfl)
theorem dX9_cause_86 : decode cX9_cause 86 = .ok (.invokevirtual 116, 3) := dk_182 0 116 (dk_at dksX9_cause_3 15 rfl rfl)
theorem dX9_cause_89 : decode cX9_cause 89 = .ok (.aload_n 0, 1) := dk_42 (dk_at dksX9_cause_3 18 rfl rfl)
theorem dX9_cause_90 : decode cX9_cause 90 = .ok (.invokevirtual 29, 3) := dk_182 0 29 (dk_at dksX9_cause_3 19 rfl rfl)
theorem dX9_cause_93 : decode cX9_cause 93 = .ok (.aload_n 2, 1) := dk_44 (dk_at dksX9_cause_3 22 rfl rfl)
theorem dX9_cause_94 : decode cX9_cause 94 = .ok (.iload 4, 2) := dk_21 4 (dk_at dksX9_cause_4 0 rfl rfl)
theorem dX9_cause_96 : decode cX9_cause 96 = .ok (.aload_n 0, 1) := dk_42 (dk_at dksX9_cause_4 2 rfl rfl)
theorem dX9_cause_97 : decode cX9_cause 97 = .ok (.iconst 0, 1) := dk_3 (dk_at dksX9_cause_4 3 rfl rfl)
theorem dX9_cause_98 : decode cX9_cause 98 = .ok (.bipush 9, 2) := dk_16 9 (dk_at dksX9_cause_4 4 rfl rfl)
theorem dX9_cause_100 : decode cX9_cause 100 = .ok (.invokevirtual 147, 3) := dk_182 0 147 (dk_at dksX9_cause_4 6 rfl rfl)
theorem dX9_cause_103 : decode cX9_cause 103 = .ok (.iastore, 1) := dk_79 (dk_at dksX9_cause_4 9 rfl rfl)
theorem dX9_cause_104 : decode cX9_cause 104 = .ok (.iinc 3 1, 3) := dk_132 3 1 (dk_at dksX9_cause_4 10 rfl rfl)
theorem dX9_cause_107 : decode cX9_cause 107 = .ok (.aload_n 0, 1) := dk_42 (dk_at dksX9_cause_4 13 rfl rfl)
theorem dX9_cause_108 : decode cX9_cause 108 = .ok (.getfield 52, 3) := dk_180 0 52 (dk_at dksX9_cause_4 14 rfl rfl)
theorem dX9_cause_111 : decode cX9_cause 111 = .ok (.getstatic 85, 3) := dk_178 0 85 (dk_at dksX9_cause_4 17 rfl rfl)
theorem dX9_cause_114 : decode cX9_cause 114 = .ok (.if_acmp .eq (-89), 3) := dk_165 255 167 (dk_at dksX9_cause_4 20 rfl rfl)
theorem dX9_cause_117 : decode cX9_cause 117 = .ok (.aload_n 1, 1) := dk_43 (dk_at dksX9_cause_4 23 rfl rfl)
theorem dX9_cause_118 : decode cX9_cause 118 = .ok (.getfield 164, 3) := dk_180 0 164 (dk_at dksX9_cause_5 0 rfl rfl)
theorem dX9_cause_121 : decode cX9_cause 121 = .ok (.aload_n 2, 1) := dk_44 (dk_at dksX9_cause_5 3 rfl rfl)
theorem dX9_cause_122 : decode cX9_cause 122 = .ok (.invokevirtual 218, 3) := dk_182 0 218 (dk_at dksX9_cause_5 4 rfl rfl)
theorem dX9_cause_125 : decode cX9_cause 125 = .ok (.pop, 1) := dk_87 (dk_at dksX9_cause_5 7 rfl rfl)
theorem dX9_cause_126 : decode cX9_cause 126 = .ok (.return_, 1) := dk_177 (dk_at dksX9_cause_5 8 rfl rfl)
abbrev cX9_judge : ByteArray := prog_10_method_15_code
def yX9_judge : MethodName := ⟨RX9, "judge", "(LApartBench$Land;)V"⟩
def dkwX9_judge_9 : List UInt8 := [187, 0, 215, 89, 29, 21, 4, 25, 7, 183, 0, 217, 182, 0, 218, 87, 177]
abbrev dktX9_judge_9 : List UInt8 := dkwX9_judge_9 ++ []
def dkwX9_judge_8 : List UInt8 := [44, 18, 179, 182, 0, 103, 153, 0, 18, 187, 0, 212, 89, 29, 21, 4, 25, 7, 183, 0, 214, 167, 0, 15]
abbrev dktX9_judge_8 : List UInt8 := dkwX9_judge_8 ++ dktX9_judge_9
def dkwX9_judge_7 : List UInt8 := [44, 18, 177, 182, 0, 103, 153, 0, 18, 187, 0, 207, 89, 29, 21, 4, 25, 7, 183, 0, 209, 167, 0, 39]
abbrev dktX9_judge_7 : List UInt8 := dkwX9_judge_7 ++ dktX9_judge_8
def dkwX9_judge_6 : List UInt8 := [165, 255, 151, 21, 6, 188, 10, 58, 7, 25, 5, 3, 25, 7, 3, 21, 6, 184, 0, 201, 43, 180, 0, 181]
abbrev dktX9_judge_6 : List UInt8 := dkwX9_judge_6 ++ dktX9_judge_7
def dkwX9_judge_5 : List UInt8 := [182, 0, 116, 25, 5, 21, 6, 21, 7, 79, 132, 6, 1, 42, 182, 0, 29, 42, 180, 0, 52, 178, 0, 85]
abbrev dktX9_judge_5 : List UInt8 := dkwX9_judge_5 ++ dktX9_judge_6
def dkwX9_judge_4 : List UInt8 := [16, 9, 25, 5, 21, 6, 4, 100, 46, 104, 21, 7, 96, 46, 158, 0, 7, 4, 167, 0, 4, 3, 16, 6]
abbrev dktX9_judge_4 : List UInt8 := dkwX9_judge_4 ++ dktX9_judge_5
def dkwX9_judge_3 : List UInt8 := [182, 0, 116, 42, 43, 180, 0, 125, 182, 0, 195, 54, 7, 42, 21, 6, 153, 0, 24, 43, 180, 0, 198]
abbrev dktX9_judge_3 : List UInt8 := dkwX9_judge_3 ++ dktX9_judge_4
def dkwX9_judge_2 : List UInt8 := [167, 0, 4, 3, 4, 182, 0, 116, 42, 21, 6, 16, 7, 162, 0, 7, 4, 167, 0, 4, 3, 5]
abbrev dktX9_judge_2 : List UInt8 := dkwX9_judge_2 ++ dktX9_judge_3
def dkwX9_judge_1 : List UInt8 := [54, 4, 16, 7, 188, 10, 58, 5, 3, 54, 6, 42, 42, 180, 0, 52, 178, 0, 85, 166, 0, 7, 4]
abbrev dktX9_judge_1 : List UInt8 := dkwX9_judge_1 ++ dktX9_judge_2
def dkwX9_judge_0 : List UInt8 := [42, 180, 0, 11, 77, 42, 182, 0, 29, 42, 3, 16, 60, 182, 0, 147, 62, 42, 3, 16, 9, 182, 0, 147]
abbrev dktX9_judge_0 : List UInt8 := dkwX9_judge_0 ++ dktX9_judge_1
theorem dksX9_judge_0 : cX9_judge.data.toList.drop 0 = dktX9_judge_0 := by decide +kernel
theorem dksX9_judge_1 : cX9_judge.data.toList.drop 24 = dktX9_judge_1 := dk_seg dksX9_judge_0 24 rfl rfl
theorem dksX9_judge_2 : cX9_judge.data.toList.drop 47 = dktX9_judge_2 := dk_seg dksX9_judge_1 23 rfl rfl
theorem dksX9_judge_3 : cX9_judge.data.toList.drop 69 = dktX9_judge_3 := dk_seg dksX9_judge_2 22 rfl rfl
theorem dksX9_judge_4 : cX9_judge.data.toList.drop 92 = dktX9_judge_4 := dk_seg dksX9_judge_3 23 rfl rfl
theorem dksX9_judge_5 : cX9_judge.data.toList.drop 116 = dktX9_judge_5 := dk_seg dksX9_judge_4 24 rfl rfl
theorem dksX9_judge_6 : cX9_judge.data.toList.drop 140 = dktX9_judge_6 := dk_seg dksX9_judge_5 24 rfl rfl
theorem dksX9_judge_7 : cX9_judge.data.toList.drop 164 = dktX9_judge_7 := dk_seg dksX9_judge_6 24 rfl rfl
theorem dksX9_judge_8 : cX9_judge.data.toList.drop 188 = dktX9_judge_8 := dk_seg dksX9_judge_7 24 rfl rfl
theorem dksX9_judge_9 : cX9_judge.data.toList.drop 212 = dktX9_judge_9 := dk_seg dksX9_judge_8 24 rfl rfl
theorem dX9_judge_0 : decode cX9_judge 0 = .ok (.aload_n 0, 1) := dk_42 (dk_at dksX9_judge_0 0 rfl rfl)
theorem dX9_judge_1 : decode cX9_judge 1 = .ok (.getfield 11, 3) := dk_180 0 11 (dk_at dksX9_judge_0 1 rfl rfl)
theorem dX9_judge_4 : decode cX9_judge 4 = .ok (.astore_n 2, 1) := dk_77 (dk_at dksX9_judge_0 4 rfl rfl)
theorem dX9_judge_5 : decode cX9_judge 5 = .ok (.aload_n 0, 1) := dk_42 (dk_at dksX9_judge_0 5 rfl rfl)
theorem dX9_judge_6 : decode cX9_judge 6 = .ok (.invokevirtual 29, 3) := dk_182 0 29 (dk_at dksX9_judge_0 6 rfl rfl)
theorem dX9_judge_9 : decode cX9_judge 9 = .ok (.aload_n 0, 1) := dk_42 (dk_at dksX9_judge_0 9 rfl rfl)
theorem dX9_judge_10 : decode cX9_judge 10 = .ok (.iconst 0, 1) := dk_3 (dk_at dksX9_judge_0 10 rfl rfl)
theorem dX9_judge_11 : decode cX9_judge 11 = .ok (.bipush 60, 2) := dk_16 60 (dk_at dksX9_judge_0 11 rfl rfl)
theorem dX9_judge_13 : decode cX9_judge 13 = .ok (.invokevirtual 147, 3) := dk_182 0 147 (dk_at dksX9_judge_0 13 rfl rfl)
theorem dX9_judge_16 : decode cX9_judge 16 = .ok (.istore_n 3, 1) := dk_62 (dk_at dksX9_judge_0 16 rfl rfl)
theorem dX9_judge_17 : decode cX9_judge 17 = .ok (.aload_n 0, 1) := dk_42 (dk_at dksX9_judge_0 17 rfl rfl)
theorem dX9_judge_18 : decode cX9_judge 18 = .ok (.iconst 0, 1) := dk_3 (dk_at dksX9_judge_0 18 rfl rfl)
theorem dX9_judge_19 : decode cX9_judge 19 = .ok (.bipush 9, 2) := dk_16 9 (dk_at dksX9_judge_0 19 rfl rfl)
theorem dX9_judge_21 : decode cX9_judge 21 = .ok (.invokevirtual 147, 3) := dk_182 0 147 (dk_at dksX9_judge_0 21 rfl rfl)
theorem dX9_judge_24 : decode cX9_judge 24 = .ok (.istore 4, 2) := dk_54 4 (dk_at dksX9_judge_1 0 rfl rfl)
theorem dX9_judge_26 : decode cX9_judge 26 = .ok (.bipush 7, 2) := dk_16 7 (dk_at dksX9_judge_1 2 rfl rfl)
theorem dX9_judge_28 : decode cX9_judge 28 = .ok (.newarray .int, 2) := dk_188_10 (dk_at dksX9_judge_1 4 rfl rfl)
theorem dX9_judge_30 : decode cX9_judge 30 = .ok (.astore 5, 2) := dk_58 5 (dk_at dksX9_judge_1 6 rfl rfl)
theorem dX9_judge_32 : decode cX9_judge 32 = .ok (.iconst 0, 1) := dk_3 (dk_at dksX9_judge_1 8 rfl rfl)
theorem dX9_judge_33 : decode cX9_judge 33 = .ok (.istore 6, 2) := dk_54 6 (dk_at dksX9_judge_1 9 rfl rfl)
theorem dX9_judge_35 : decode cX9_judge 35 = .ok (.aload_n 0, 1) := dk_42 (dk_at dksX9_judge_1 11 rfl rfl)
theorem dX9_judge_36 : decode cX9_judge 36 = .ok (.aload_n 0, 1) := dk_42 (dk_at dksX9_judge_1 12 rfl rfl)
theorem dX9_judge_37 : decode cX9_judge 37 = .ok (.getfield 52, 3) := dk_180 0 52 (dk_at dksX9_judge_1 13 rfl rfl)
theorem dX9_judge_40 : decode cX9_judge 40 = .ok (.getstatic 85, 3) := dk_178 0 85 (dk_at dksX9_judge_1 16 rfl rfl)
theorem dX9_judge_43 : decode cX9_judge 43 = .ok (.if_acmp .ne 7, 3) := dk_166 0 7 (dk_at dksX9_judge_1 19 rfl rfl)
theorem dX9_judge_46 : decode cX9_judge 46 = .ok (.iconst 1, 1) := dk_4 (dk_at dksX9_judge_1 22 rfl rfl)
theorem dX9_judge_47 : decode cX9_judge 47 = .ok (.goto 4, 3) := dk_167 0 4 (dk_at dksX9_judge_2 0 rfl rfl)
theorem dX9_judge_50 : decode cX9_judge 50 = .ok (.iconst 0, 1) := dk_3 (dk_at dksX9_judge_2 3 rfl rfl)
theorem dX9_judge_51 : decode cX9_judge 51 = .ok (.iconst 1, 1) := dk_4 (dk_at dksX9_judge_2 4 rfl rfl)
theorem dX9_judge_52 : decode cX9_judge 52 = .ok (.invokevirtual 116, 3) := dk_182 0 116 (dk_at dksX9_judge_2 5 rfl rfl)
theorem dX9_judge_55 : decode cX9_judge 55 = .ok (.aload_n 0, 1) := dk_42 (dk_at dksX9_judge_2 8 rfl rfl)
theorem dX9_judge_56 : decode cX9_judge 56 = .ok (.iload 6, 2) := dk_21 6 (dk_at dksX9_judge_2 9 rfl rfl)
theorem dX9_judge_58 : decode cX9_judge 58 = .ok (.bipush 7, 2) := dk_16 7 (dk_at dksX9_judge_2 11 rfl rfl)
theorem dX9_judge_60 : decode cX9_judge 60 = .ok (.if_icmp .ge 7, 3) := dk_162 0 7 (dk_at dksX9_judge_2 13 rfl rfl)
theorem dX9_judge_63 : decode cX9_judge 63 = .ok (.iconst 1, 1) := dk_4 (dk_at dksX9_judge_2 16 rfl rfl)
theorem dX9_judge_64 : decode cX9_judge 64 = .ok (.goto 4, 3) := dk_167 0 4 (dk_at dksX9_judge_2 17 rfl rfl)
theorem dX9_judge_67 : decode cX9_judge 67 = .ok (.iconst 0, 1) := dk_3 (dk_at dksX9_judge_2 20 rfl rfl)
theorem dX9_judge_68 : decode cX9_judge 68 = .ok (.iconst 2, 1) := dk_5 (dk_at dksX9_judge_2 21 rfl rfl)
theorem dX9_judge_69 : decode cX9_judge 69 = .ok (.invokevirtual 116, 3) := dk_182 0 116 (dk_at dksX9_judge_3 0 rfl rfl)
theorem dX9_judge_72 : decode cX9_judge 72 = .ok (.aload_n 0, 1) := dk_42 (dk_at dksX9_judge_3 3 rfl rfl)
theorem dX9_judge_73 : decode cX9_judge 73 = .ok (.aload_n 1, 1) := dk_43 (dk_at dksX9_judge_3 4 rfl rfl)
theorem dX9_judge_74 : decode cX9_judge 74 = .ok (.getfield 125, 3) := dk_180 0 125 (dk_at dksX9_judge_3 5 rfl rfl)
theorem dX9_judge_77 : decode cX9_judge 77 = .ok (.invokevirtual 195, 3) := dk_182 0 195 (dk_at dksX9_judge_3 8 rfl rfl)
theorem dX9_judge_80 : decode cX9_judge 80 = .ok (.istore 7, 2) := dk_54 7 (dk_at dksX9_judge_3 11 rfl rfl)
theorem dX9_judge_82 : decode cX9_judge 82 = .ok (.aload_n 0, 1) := dk_42 (dk_at dksX9_judge_3 13 rfl rfl)
theorem dX9_judge_83 : decode cX9_judge 83 = .ok (.iload 6, 2) := dk_21 6 (dk_at dksX9_judge_3 14 rfl rfl)
theorem dX9_judge_85 : decode cX9_judge 85 = .ok (.ifCond .eq 24, 3) := dk_153 0 24 (dk_at dksX9_judge_3 16 rfl rfl)
theorem dX9_judge_88 : decode cX9_judge 88 = .ok (.aload_n 1, 1) := dk_43 (dk_at dksX9_judge_3 19 rfl rfl)
theorem dX9_judge_89 : decode cX9_judge 89 = .ok (.getfield 198, 3) := dk_180 0 198 (dk_at dksX9_judge_3 20 rfl rfl)
theorem dX9_judge_92 : decode cX9_judge 92 = .ok (.bipush 9, 2) := dk_16 9 (dk_at dksX9_judge_4 0 rfl rfl)
theorem dX9_judge_94 : decode cX9_judge 94 = .ok (.aload 5, 2) := dk_25 5 (dk_at dksX9_judge_4 2 rfl rfl)
theorem dX9_judge_96 : decode cX9_judge 96 = .ok (.iload 6, 2) := dk_21 6 (dk_at dksX9_judge_4 4 rfl rfl)
theorem dX9_judge_98 : decode cX9_judge 98 = .ok (.iconst 1, 1) := dk_4 (dk_at dksX9_judge_4 6 rfl rfl)
theorem dX9_judge_99 : decode cX9_judge 99 = .ok (.isub, 1) := dk_100 (dk_at dksX9_judge_4 7 rfl rfl)
theorem dX9_judge_100 : decode cX9_judge 100 = .ok (.iaload, 1) := dk_46 (dk_at dksX9_judge_4 8 rfl rfl)
theorem dX9_judge_101 : decode cX9_judge 101 = .ok (.imul, 1) := dk_104 (dk_at dksX9_judge_4 9 rfl rfl)
theorem dX9_judge_102 : decode cX9_judge 102 = .ok (.iload 7, 2) := dk_21 7 (dk_at dksX9_judge_4 10 rfl rfl)
theorem dX9_judge_104 : decode cX9_judge 104 = .ok (.iadd, 1) := dk_96 (dk_at dksX9_judge_4 12 rfl rfl)
theorem dX9_judge_105 : decode cX9_judge 105 = .ok (.iaload, 1) := dk_46 (dk_at dksX9_judge_4 13 rfl rfl)
theorem dX9_judge_106 : decode cX9_judge 106 = .ok (.ifCond .le 7, 3) := dk_158 0 7 (dk_at dksX9_judge_4 14 rfl rfl)
theorem dX9_judge_109 : decode cX9_judge 109 = .ok (.iconst 1, 1) := dk_4 (dk_at dksX9_judge_4 17 rfl rfl)
theorem dX9_judge_110 : decode cX9_judge 110 = .ok (.goto 4, 3) := dk_167 0 4 (dk_at dksX9_judge_4 18 rfl rfl)
theorem dX9_judge_113 : decode cX9_judge 113 = .ok (.iconst 0, 1) := dk_3 (dk_at dksX9_judge_4 21 rfl rfl)
theorem dX9_judge_114 : decode cX9_judge 114 = .ok (.bipush 6, 2) := dk_16 6 (dk_at dksX9_judge_4 22 rfl rfl)
theorem dX9_judge_116 : decode cX9_judge 116 = .ok (.invokevirtual 116, 3) := dk_182 0 116 (dk_at dksX9_judge_5 0 rfl rfl)
theorem dX9_judge_119 : decode cX9_judge 119 = .ok (.aload 5, 2) := dk_25 5 (dk_at dksX9_judge_5 3 rfl rfl)
theorem dX9_judge_121 : decode cX9_judge 121 = .ok (.iload 6, 2) := dk_21 6 (dk_at dksX9_judge_5 5 rfl rfl)
theorem dX9_judge_123 : decode cX9_judge 123 = .ok (.iload 7, 2) := dk_21 7 (dk_at dksX9_judge_5 7 rfl rfl)
theorem dX9_judge_125 : decode cX9_judge 125 = .ok (.iastore, 1) := dk_79 (dk_at dksX9_judge_5 9 rfl rfl)
theorem dX9_judge_126 : decode cX9_judge 126 = .ok (.iinc 6 1, 3) := dk_132 6 1 (dk_at dksX9_judge_5 10 rfl rfl)
theorem dX9_judge_129 : decode cX9_judge 129 = .ok (.aload_n 0, 1) := dk_42 (dk_at dksX9_judge_5 13 rfl rfl)
theorem dX9_judge_130 : decode cX9_judge 130 = .ok (.invokevirtual 29, 3) := dk_182 0 29 (dk_at dksX9_judge_5 14 rfl rfl)
theorem dX9_judge_133 : decode cX9_judge 133 = .ok (.aload_n 0, 1) := dk_42 (dk_at dksX9_judge_5 17 rfl rfl)
theorem dX9_judge_134 : decode cX9_judge 134 = .ok (.getfield 52, 3) := dk_180 0 52 (dk_at dksX9_judge_5 18 rfl rfl)
theorem dX9_judge_137 : decode cX9_judge 137 = .ok (.getstatic 85, 3) := dk_178 0 85 (dk_at dksX9_judge_5 21 rfl rfl)
theorem dX9_judge_140 : decode cX9_judge 140 = .ok (.if_acmp .eq (-105), 3) := dk_165 255 151 (dk_at dksX9_judge_6 0 rfl rfl)
theorem dX9_judge_143 : decode cX9_judge 143 = .ok (.iload 6, 2) := dk_21 6 (dk_at dksX9_judge_6 3 rfl rfl)
theorem dX9_judge_145 : decode cX9_judge 145 = .ok (.newarray .int, 2) := dk_188_10 (dk_at dksX9_judge_6 5 rfl rfl)
theorem dX9_judge_147 : decode cX9_judge 147 = .ok (.astore 7, 2) := dk_58 7 (dk_at dksX9_judge_6 7 rfl rfl)
theorem dX9_judge_149 : decode cX9_judge 149 = .ok (.aload 5, 2) := dk_25 5 (dk_at dksX9_judge_6 9 rfl rfl)
theorem dX9_judge_151 : decode cX9_judge 151 = .ok (.iconst 0, 1) := dk_3 (dk_at dksX9_judge_6 11 rfl rfl)
theorem dX9_judge_152 : decode cX9_judge 152 = .ok (.aload 7, 2) := dk_25 7 (dk_at dksX9_judge_6 12 rfl rfl)
theorem dX9_judge_154 : decode cX9_judge 154 = .ok (.iconst 0, 1) := dk_3 (dk_at dksX9_judge_6 14 rfl rfl)
theorem dX9_judge_155 : decode cX9_judge 155 = .ok (.iload 6, 2) := dk_21 6 (dk_at dksX9_judge_6 15 rfl rfl)
theorem dX9_judge_157 : decode cX9_judge 157 = .ok (.invokestatic 201, 3) := dk_184 0 201 (dk_at dksX9_judge_6 17 rfl rfl)
theorem dX9_judge_160 : decode cX9_judge 160 = .ok (.aload_n 1, 1) := dk_43 (dk_at dksX9_judge_6 20 rfl rfl)
theorem dX9_judge_161 : decode cX9_judge 161 = .ok (.getfield 181, 3) := dk_180 0 181 (dk_at dksX9_judge_6 21 rfl rfl)
theorem dX9_judge_164 : decode cX9_judge 164 = .ok (.aload_n 2, 1) := dk_44 (dk_at dksX9_judge_7 0 rfl rfl)
theorem dX9_judge_165 : decode cX9_judge 165 = .ok (.ldc 177, 2) := dk_18 177 (dk_at dksX9_judge_7 1 rfl rfl)
theorem dX9_judge_167 : decode cX9_judge 167 = .ok (.invokevirtual 103, 3) := dk_182 0 103 (dk_at dksX9_judge_7 3 rfl rfl)
theorem dX9_judge_170 : decode cX9_judge 170 = .ok (.ifCond .eq 18, 3) := dk_153 0 18 (dk_at dksX9_judge_7 6 rfl rfl)
theorem dX9_judge_173 : decode cX9_judge 173 = .ok (.new 207, 3) := dk_187 0 207 (dk_at dksX9_judge_7 9 rfl rfl)
theorem dX9_judge_176 : decode cX9_judge 176 = .ok (.dup, 1) := dk_89 (dk_at dksX9_judge_7 12 rfl rfl)
theorem dX9_judge_177 : decode cX9_judge 177 = .ok (.iload_n 3, 1) := dk_29 (dk_at dksX9_judge_7 13 rfl rfl)
theorem dX9_judge_178 : decode cX9_judge 178 = .ok (.iload 4, 2) := dk_21 4 (dk_at dksX9_judge_7 14 rfl rfl)
theorem dX9_judge_180 : decode cX9_judge 180 = .ok (.aload 7, 2) := dk_25 7 (dk_at dksX9_judge_7 16 rfl rfl)
theorem dX9_judge_182 : decode cX9_judge 182 = .ok (.invokespecial 209, 3) := dk_183 0 209 (dk_at dksX9_judge_7 18 rfl rfl)
theorem dX9_judge_185 : decode cX9_judge 185 = .ok (.goto 39, 3) := dk_167 0 39 (dk_at dksX9_judge_7 21 rfl rfl)
theorem dX9_judge_188 : decode cX9_judge 188 = .ok (.aload_n 2, 1) := dk_44 (dk_at dksX9_judge_8 0 rfl rfl)
theorem dX9_judge_189 : decode cX9_judge 189 = .ok (.ldc 179, 2) := dk_18 179 (dk_at dksX9_judge_8 1 rfl rfl)
theorem dX9_judge_191 : decode cX9_judge 191 = .ok (.invokevirtual 103, 3) := dk_182 0 103 (dk_at dksX9_judge_8 3 rfl rfl)
theorem dX9_judge_194 : decode cX9_judge 194 = .ok (.ifCond .eq 18, 3) := dk_153 0 18 (dk_at dksX9_judge_8 6 rfl rfl)
theorem dX9_judge_197 : decode cX9_judge 197 = .ok (.new 212, 3) := dk_187 0 212 (dk_at dksX9_judge_8 9 rfl rfl)
theorem dX9_judge_200 : decode cX9_judge 200 = .ok (.dup, 1) := dk_89 (dk_at dksX9_judge_8 12 rfl rfl)
theorem dX9_judge_201 : decode cX9_judge 201 = .ok (.iload_n 3, 1) := dk_29 (dk_at dksX9_judge_8 13 rfl rfl)
theorem dX9_judge_202 : decode cX9_judge 202 = .ok (.iload 4, 2) := dk_21 4 (dk_at dksX9_judge_8 14 rfl rfl)
theorem dX9_judge_204 : decode cX9_judge 204 = .ok (.aload 7, 2) := dk_25 7 (dk_at dksX9_judge_8 16 rfl rfl)
theorem dX9_judge_206 : decode cX9_judge 206 = .ok (.invokespecial 214, 3) := dk_183 0 214 (dk_at dksX9_judge_8 18 rfl rfl)
theorem dX9_judge_209 : decode cX9_judge 209 = .ok (.goto 15, 3) := dk_167 0 15 (dk_at dksX9_judge_8 21 rfl rfl)
theorem dX9_judge_212 : decode cX9_judge 212 = .ok (.new 215, 3) := dk_187 0 215 (dk_at dksX9_judge_9 0 rfl rfl)
theorem dX9_judge_215 : decode cX9_judge 215 = .ok (.dup, 1) := dk_89 (dk_at dksX9_judge_9 3 rfl rfl)
theorem dX9_judge_216 : decode cX9_judge 216 = .ok (.iload_n 3, 1) := dk_29 (dk_at dksX9_judge_9 4 rfl rfl)
theorem dX9_judge_217 : decode cX9_judge 217 = .ok (.iload 4, 2) := dk_21 4 (dk_at dksX9_judge_9 5 rfl rfl)
theorem dX9_judge_219 : decode cX9_judge 219 = .ok (.aload 7, 2) := dk_25 7 (dk_at dksX9_judge_9 7 rfl rfl)
theorem dX9_judge_221 : decode cX9_judge 221 = .ok (.invokespecial 217, 3) := dk_183 0 217 (dk_at dksX9_judge_9 9 rfl rfl)
theorem dX9_judge_224 : decode cX9_judge 224 = .ok (.invokevirtual 218, 3) := dk_182 0 218 (dk_at dksX9_judge_9 12 rfl rfl)
theorem dX9_judge_227 : decode cX9_judge 227 = .ok (.pop, 1) := dk_87 (dk_at dksX9_judge_9 15 rfl rfl)
theorem dX9_judge_228 : decode cX9_judge 228 = .ok (.return_, 1) := dk_177 (dk_at dksX9_judge_9 16 rfl rfl)
theorem q135 : (Jvm.Cond.initialized "ApartBench$Reader") ∈ lw_all := lw_g (lw_at lw_m1 30 rfl) rfl
theorem q526 : (Jvm.Cond.fieldLinkNest "ApartBench$Reader" (125 : Nat) "ApartBench$Land" "towns" "I" "ApartBench") ∈ lw_tbl := lw_at lw_m2 181 rfl
theorem q527 : (Jvm.Cond.fieldLinkNest "ApartBench$Reader" (135 : Nat) "ApartBench$Land" "roads" "I" "ApartBench") ∈ lw_tbl := lw_at lw_m2 182 rfl
theorem q530 : (Jvm.Cond.fieldLinkNest "ApartBench$Reader" (151 : Nat) "ApartBench$Land" "gossip" "I" "ApartBench") ∈ lw_tbl := lw_at lw_m2 185 rfl
theorem q533 : (Jvm.Cond.fieldLinkNest "ApartBench$Reader" (130 : Nat) "ApartBench$Land" "inns" "I" "ApartBench") ∈ lw_tbl := lw_at lw_m2 188 rfl
theorem q536 : (Jvm.Cond.fieldLinkNest "ApartBench$Reader" (198 : Nat) "ApartBench$Land" "road" "[I" "ApartBench") ∈ lw_tbl := lw_at lw_m2 191 rfl
theorem q542 : (Jvm.Cond.fieldLinkNest "ApartBench$Reader" (181 : Nat) "ApartBench$Land" "judges" "Ljava/util/ArrayList;" "ApartBench") ∈ lw_tbl := lw_at lw_m2 197 rfl
theorem q546 : (Jvm.Cond.fieldLinkNest "ApartBench$Reader" (164 : Nat) "ApartBench$Land" "cases" "Ljava/util/ArrayList;" "ApartBench") ∈ lw_tbl := lw_at lw_m2 201 rfl
theorem q548 : (Jvm.Cond.fieldLinkNest "ApartBench$Reader" (159 : Nat) "ApartBench$Land" "law" "LApartBench$Expr;" "ApartBench") ∈ lw_tbl := lw_at lw_m2 203 rfl
theorem q675 : (Jvm.Cond.selects "ApartBench$Reader" ({ cls := "java/lang/Object", name := "getClass", desc := "()Ljava/lang/Class;" } : Jvm.MethodName) ({ cls := "java/lang/Object", name := "getClass", desc := "()Ljava/lang/Class;" } : Jvm.MethodName)) ∈ lw_all := lw_g (lw_at lw_m3 90 rfl) rfl
theorem q909 : (Jvm.Cond.instantiable "ApartBench$Reader" (9 : Nat)) ∈ lw_all := lw_g (lw_at lw_m4 84 rfl) rfl
theorem q911 : (Jvm.Cond.instanceMethod ({ cls := "ApartBench$Reader", name := "<init>", desc := "([BI)V" } : Jvm.MethodName)) ∈ lw_all := lw_g (lw_at lw_m4 86 rfl) rfl
theorem q912 : (Jvm.Cond.code ({ cls := "ApartBench$Reader", name := "<init>", desc := "([BI)V" } : Jvm.MethodName) prog_10_method_1_code (3 : Nat) (Option.none : Option Jvm.ClassFile.FieldType)) ∈ lw_all := lw_g (lw_at lw_m4 87 rfl) rfl
theorem q913 : (Jvm.Cond.methodLink "ApartBench$Reader" (3 : Nat) ({ cls := "java/lang/Object", name := "<init>", desc := "()V" } : Jvm.MethodName)) ∈ lw_all := lw_g (lw_at lw_m4 88 rfl) rfl
theorem q914 : (Jvm.Cond.stringRef "ApartBench$Reader" (9 : Nat) "") ∈ lw_tbl := lw_at lw_m4 89 rfl
theorem q915 : (Jvm.Cond.methodLink "ApartBench$Reader" (29 : Nat) ({ cls := "ApartBench$Reader", name := "go", desc := "()V" } : Jvm.MethodName)) ∈ lw_all := lw_g (lw_at lw_m4 90 rfl) rfl
theorem q916 : (Jvm.Cond.privateMethod ({ cls := "ApartBench$Reader", name := "go", desc := "()V" } : Jvm.MethodName)) ∈ lw_tbl := lw_at lw_m4 91 rfl
theorem q917 : (Jvm.Cond.instanceMethod ({ cls := "ApartBench$Reader", name := "go", desc := "()V" } : Jvm.MethodName)) ∈ lw_all := lw_g (lw_at lw_m4 92 rfl) rfl
theorem q918 : (Jvm.Cond.code ({ cls := "ApartBench$Reader", name := "go", desc := "()V" } : Jvm.MethodName) prog_10_method_6_code (3 : Nat) (Option.none : Option Jvm.ClassFile.FieldType)) ∈ lw_all := lw_g (lw_at lw_m4 93 rfl) rfl
theorem q919 : (Jvm.Cond.methodLink "ApartBench$Reader" (35 : Nat) ({ cls := "ApartBench$Reader", name := "byteAt", desc := "(I)I" } : Jvm.MethodName)) ∈ lw_all := lw_g (lw_at lw_m4 94 rfl) rfl
theorem q920 : (Jvm.Cond.privateMethod ({ cls := "ApartBench$Reader", name := "byteAt", desc := "(I)I" } : Jvm.MethodName)) ∈ lw_tbl := lw_at lw_m4 95 rfl
theorem q921 : (Jvm.Cond.instanceMethod ({ cls := "ApartBench$Reader", name := "byteAt", desc := "(I)I" } : Jvm.MethodName)) ∈ lw_all := lw_g (lw_at lw_m4 96 rfl) rfl
theorem q922 : (Jvm.Cond.code ({ cls := "ApartBench$Reader", name := "byteAt", desc := "(I)I" } : Jvm.MethodName) prog_10_method_2_code (2 : Nat) (Option.some Jvm.ClassFile.FieldType.int)) ∈ lw_all := lw_g (lw_at lw_m4 97 rfl) rfl
theorem q923 : (Jvm.Cond.fieldLink "ApartBench$Reader" (46 : Nat) "ApartBench$Sort" "END" "LApartBench$Sort;") ∈ lw_all := lw_g (lw_at lw_m4 98 rfl) rfl
theorem q925 : (Jvm.Cond.methodLink "ApartBench$Reader" (55 : Nat) ({ cls := "ApartBench$Reader", name := "isLetter", desc := "(I)Z" } : Jvm.MethodName)) ∈ lw_all := lw_g (lw_at lw_m4 100 rfl) rfl
theorem q926 : (Jvm.Cond.static ({ cls := "ApartBench$Reader", name := "isLetter", desc := "(I)Z" } : Jvm.MethodName)) ∈ lw_all := lw_g (lw_at lw_m4 101 rfl) rfl
theorem q927 : (Jvm.Cond.code ({ cls := "ApartBench$Reader", name := "isLetter", desc := "(I)Z" } : Jvm.MethodName) prog_10_method_3_code (1 : Nat) (Option.some Jvm.ClassFile.FieldType.boolean)) ∈ lw_all := lw_g (lw_at lw_m4 102 rfl) rfl
theorem q928 : (Jvm.Cond.classLink "ApartBench$Reader" (59 : Nat) "java/lang/StringBuilder") ∈ lw_all := lw_g (lw_at lw_m4 103 rfl) rfl
theorem q929 : (Jvm.Cond.methodLink "ApartBench$Reader" (61 : Nat) ({ cls := "java/lang/StringBuilder", name := "<init>", desc := "(I)V" } : Jvm.MethodName)) ∈ lw_all := lw_g (lw_at lw_m4 104 rfl) rfl
theorem q932 : (Jvm.Cond.methodLink "ApartBench$Reader" (64 : Nat) ({ cls := "java/lang/StringBuilder", name := "length", desc := "()I" } : Jvm.MethodName)) ∈ lw_all := lw_g (lw_at lw_m4 107 rfl) rfl
theorem q933 : (Jvm.Cond.methodLink "ApartBench$Reader" (68 : Nat) ({ cls := "java/lang/StringBuilder", name := "append", desc := "(C)Ljava/lang/StringBuilder;" } : Jvm.MethodName)) ∈ lw_all := lw_g (lw_at lw_m4 108 rfl) rfl
theorem q953 : (Jvm.Cond.methodLink "ApartBench$Reader" (72 : Nat) ({ cls := "java/lang/StringBuilder", name := "toString", desc := "()Ljava/lang/String;" } : Jvm.MethodName)) ∈ lw_all := lw_g (lw_at lw_m4 128 rfl) rfl
theorem q954 : (Jvm.Cond.fieldLink "ApartBench$Reader" (76 : Nat) "ApartBench$Sort" "WORD" "LApartBench$Sort;") ∈ lw_all := lw_g (lw_at lw_m4 129 rfl) rfl
theorem q956 : (Jvm.Cond.methodLink "ApartBench$Reader" (79 : Nat) ({ cls := "ApartBench$Reader", name := "isDigit", desc := "(I)Z" } : Jvm.MethodName)) ∈ lw_all := lw_g (lw_at lw_m4 131 rfl) rfl
theorem q957 : (Jvm.Cond.static ({ cls := "ApartBench$Reader", name := "isDigit", desc := "(I)Z" } : Jvm.MethodName)) ∈ lw_all := lw_g (lw_at lw_m4 132 rfl) rfl
theorem q958 : (Jvm.Cond.code ({ cls := "ApartBench$Reader", name := "isDigit", desc := "(I)Z" } : Jvm.MethodName) prog_10_method_4_code (1 : Nat) (Option.some Jvm.ClassFile.FieldType.boolean)) ∈ lw_all := lw_g (lw_at lw_m4 133 rfl) rfl
theorem q959 : (Jvm.Cond.fieldLink "ApartBench$Reader" (85 : Nat) "ApartBench$Sort" "NUMBER" "LApartBench$Sort;") ∈ lw_all := lw_g (lw_at lw_m4 134 rfl) rfl
theorem q961 : (Jvm.Cond.methodLink "ApartBench$Reader" (88 : Nat) ({ cls := "ApartBench$Reader", name := "isSign", desc := "(I)Z" } : Jvm.MethodName)) ∈ lw_all := lw_g (lw_at lw_m4 136 rfl) rfl
theorem q962 : (Jvm.Cond.static ({ cls := "ApartBench$Reader", name := "isSign", desc := "(I)Z" } : Jvm.MethodName)) ∈ lw_all := lw_g (lw_at lw_m4 137 rfl) rfl
theorem q963 : (Jvm.Cond.code ({ cls := "ApartBench$Reader", name := "isSign", desc := "(I)Z" } : Jvm.MethodName) prog_10_method_5_code (1 : Nat) (Option.some Jvm.ClassFile.FieldType.boolean)) ∈ lw_all := lw_g (lw_at lw_m4 138 rfl) rfl
theorem q964 : (Jvm.Cond.fieldLink "ApartBench$Reader" (91 : Nat) "ApartBench$Sort" "SIGN" "LApartBench$Sort;") ∈ lw_all := lw_g (lw_at lw_m4 139 rfl) rfl
theorem q966 : (Jvm.Cond.fieldLink "ApartBench$Reader" (94 : Nat) "ApartBench$Sort" "BAD" "LApartBench$Sort;") ∈ lw_all := lw_g (lw_at lw_m4 141 rfl) rfl
theorem q968 : (Jvm.Cond.methodLink "ApartBench$Reader" (97 : Nat) ({ cls := "java/lang/String", name := "valueOf", desc := "(C)Ljava/lang/String;" } : Jvm.MethodName)) ∈ lw_all := lw_g (lw_at lw_m4 143 rfl) rfl
theorem q982 : (Jvm.Cond.fieldLink "ApartBench$Reader" (21 : Nat) "ApartBench$Reader" "text" "[B") ∈ lw_all := lw_g (lw_at lw_m4 157 rfl) rfl
theorem q983 : (Jvm.Cond.fieldLink "ApartBench$Reader" (25 : Nat) "ApartBench$Reader" "size" "I") ∈ lw_all := lw_g (lw_at lw_m4 158 rfl) rfl
theorem q984 : (Jvm.Cond.fieldLink "ApartBench$Reader" (32 : Nat) "ApartBench$Reader" "next" "I") ∈ lw_all := lw_g (lw_at lw_m4 159 rfl) rfl
theorem q985 : (Jvm.Cond.fieldLink "ApartBench$Reader" (39 : Nat) "ApartBench$Reader" "place" "I") ∈ lw_all := lw_g (lw_at lw_m4 160 rfl) rfl
theorem q986 : (Jvm.Cond.fieldLink "ApartBench$Reader" (82 : Nat) "ApartBench$Reader" "value" "I") ∈ lw_all := lw_g (lw_at lw_m4 161 rfl) rfl
theorem q987 : (Jvm.Cond.fieldLink "ApartBench$Reader" (42 : Nat) "ApartBench$Reader" "isLong" "Z") ∈ lw_all := lw_g (lw_at lw_m4 162 rfl) rfl
theorem q988 : (Jvm.Cond.fieldLink "ApartBench$Reader" (52 : Nat) "ApartBench$Reader" "sort" "LApartBench$Sort;") ∈ lw_all := lw_g (lw_at lw_m4 163 rfl) rfl
theorem q989 : (Jvm.Cond.fieldLink "ApartBench$Reader" (11 : Nat) "ApartBench$Reader" "word" "Ljava/lang/String;") ∈ lw_all := lw_g (lw_at lw_m4 164 rfl) rfl
theorem q990 : (Jvm.Cond.fieldLink "ApartBench$Reader" (17 : Nat) "ApartBench$Reader" "has" "[Z") ∈ lw_all := lw_g (lw_at lw_m4 165 rfl) rfl
theorem q991 : (Jvm.Cond.laysFinal "ApartBench$Reader" "ApartBench$Reader" "text" "[B") ∈ lw_all := lw_g (lw_at lw_m4 166 rfl) rfl
theorem q992 : (Jvm.Cond.soleField "ApartBench$Reader" "text") ∈ lw_all := lw_g (lw_at lw_m4 167 rfl) rfl
theorem q993 : (Jvm.Cond.laysFinal "ApartBench$Reader" "ApartBench$Reader" "size" "I") ∈ lw_all := lw_g (lw_at lw_m4 168 rfl) rfl
theorem q994 : (Jvm.Cond.soleField "ApartBench$Reader" "size") ∈ lw_all := lw_g (lw_at lw_m4 169 rfl) rfl
theorem q995 : (Jvm.Cond.lays "ApartBench$Reader" "ApartBench$Reader" "next" "I") ∈ lw_all := lw_g (lw_at lw_m4 170 rfl) rfl
theorem q996 : (Jvm.Cond.soleField "ApartBench$Reader" "next") ∈ lw_all := lw_g (lw_at lw_m4 171 rfl) rfl
theorem q997 : (Jvm.Cond.lays "ApartBench$Reader" "ApartBench$Reader" "place" "I") ∈ lw_all := lw_g (lw_at lw_m4 172 rfl) rfl
theorem q998 : (Jvm.Cond.soleField "ApartBench$Reader" "place") ∈ lw_all := lw_g (lw_at lw_m4 173 rfl) rfl
theorem q999 : (Jvm.Cond.lays "ApartBench$Reader" "ApartBench$Reader" "value" "I") ∈ lw_all := lw_g (lw_at lw_m4 174 rfl) rfl
theorem q1000 : (Jvm.Cond.soleField "ApartBench$Reader" "value") ∈ lw_all := lw_g (lw_at lw_m4 175 rfl) rfl
theorem q1001 : (Jvm.Cond.lays "ApartBench$Reader" "ApartBench$Reader" "isLong" "Z") ∈ lw_all := lw_g (lw_at lw_m4 176 rfl) rfl
theorem q1002 : (Jvm.Cond.soleField "ApartBench$Reader" "isLong") ∈ lw_all := lw_g (lw_at lw_m4 177 rfl) rfl
theorem q1003 : (Jvm.Cond.lays "ApartBench$Reader" "ApartBench$Reader" "sort" "LApartBench$Sort;") ∈ lw_all := lw_g (lw_at lw_m4 178 rfl) rfl
theorem q1004 : (Jvm.Cond.soleField "ApartBench$Reader" "sort") ∈ lw_all := lw_g (lw_at lw_m4 179 rfl) rfl
theorem q1005 : (Jvm.Cond.lays "ApartBench$Reader" "ApartBench$Reader" "word" "Ljava/lang/String;") ∈ lw_all := lw_g (lw_at lw_m4 180 rfl) rfl
theorem q1006 : (Jvm.Cond.soleField "ApartBench$Reader" "word") ∈ lw_all := lw_g (lw_at lw_m4 181 rfl) rfl
theorem q1007 : (Jvm.Cond.laysFinal "ApartBench$Reader" "ApartBench$Reader" "has" "[Z") ∈ lw_all := lw_g (lw_at lw_m4 182 rfl) rfl
theorem q1008 : (Jvm.Cond.soleField "ApartBench$Reader" "has") ∈ lw_all := lw_g (lw_at lw_m4 183 rfl) rfl
theorem q1009 : (Jvm.Cond.superclass "ApartBench$Reader" "java/lang/Object") ∈ lw_all := lw_g (lw_at lw_m4 184 rfl) rfl
theorem q1011 : (Jvm.Cond.instanceMethod ({ cls := "ApartBench$Reader", name := "land", desc := "()LApartBench$Land;" } : Jvm.MethodName)) ∈ lw_all := lw_g (lw_at lw_m4 186 rfl) rfl
theorem q1012 : (Jvm.Cond.selects "ApartBench$Reader" ({ cls := "ApartBench$Reader", name := "land", desc := "()LApartBench$Land;" } : Jvm.MethodName) ({ cls := "ApartBench$Reader", name := "land", desc := "()LApartBench$Land;" } : Jvm.MethodName)) ∈ lw_all := lw_g (lw_at lw_m4 187 rfl) rfl
theorem q1013 : (Jvm.Cond.code ({ cls := "ApartBench$Reader", name := "land", desc := "()LApartBench$Land;" } : Jvm.MethodName) prog_10_method_13_code (2 : Nat) (Option.some (Jvm.ClassFile.FieldType.object "ApartBench$Land"))) ∈ lw_all := lw_g (lw_at lw_m4 188 rfl) rfl
theorem q1014 : (Jvm.Cond.classLink "ApartBench$Reader" (120 : Nat) "ApartBench$Land") ∈ lw_all := lw_g (lw_at lw_m4 189 rfl) rfl
theorem q1015 : (Jvm.Cond.methodLinkNest "ApartBench$Reader" (122 : Nat) ({ cls := "ApartBench$Land", name := "<init>", desc := "()V" } : Jvm.MethodName) "ApartBench") ∈ lw_tbl := lw_at lw_m4 190 rfl
theorem q1016 : (Jvm.Cond.stringRef "ApartBench$Reader" (123 : Nat) "town") ∈ lw_tbl := lw_at lw_m4 191 rfl
theorem q1017 : (Jvm.Cond.methodLink "ApartBench$Reader" (112 : Nat) ({ cls := "ApartBench$Reader", name := "is", desc := "(Ljava/lang/String;)Z" } : Jvm.MethodName)) ∈ lw_all := lw_g (lw_at lw_m4 192 rfl) rfl
theorem q1018 : (Jvm.Cond.privateMethod ({ cls := "ApartBench$Reader", name := "is", desc := "(Ljava/lang/String;)Z" } : Jvm.MethodName)) ∈ lw_tbl := lw_at lw_m4 193 rfl
theorem q1019 : (Jvm.Cond.instanceMethod ({ cls := "ApartBench$Reader", name := "is", desc := "(Ljava/lang/String;)Z" } : Jvm.MethodName)) ∈ lw_all := lw_g (lw_at lw_m4 194 rfl) rfl
theorem q1020 : (Jvm.Cond.code ({ cls := "ApartBench$Reader", name := "is", desc := "(Ljava/lang/String;)Z" } : Jvm.MethodName) prog_10_method_7_code (2 : Nat) (Option.some Jvm.ClassFile.FieldType.boolean)) ∈ lw_all := lw_g (lw_at lw_m4 195 rfl) rfl
theorem q1021 : (Jvm.Cond.methodLink "ApartBench$Reader" (103 : Nat) ({ cls := "java/lang/String", name := "equals", desc := "(Ljava/lang/Object;)Z" } : Jvm.MethodName)) ∈ lw_all := lw_g (lw_at lw_m4 196 rfl) rfl
theorem q1028 : (Jvm.Cond.methodLink "ApartBench$Reader" (116 : Nat) ({ cls := "ApartBench$Reader", name := "check", desc := "(ZI)V" } : Jvm.MethodName)) ∈ lw_all := lw_g (lw_at lw_m4 203 rfl) rfl
theorem q1029 : (Jvm.Cond.privateMethod ({ cls := "ApartBench$Reader", name := "check", desc := "(ZI)V" } : Jvm.MethodName)) ∈ lw_tbl := lw_at lw_m4 204 rfl
theorem q1030 : (Jvm.Cond.instanceMethod ({ cls := "ApartBench$Reader", name := "check", desc := "(ZI)V" } : Jvm.MethodName)) ∈ lw_all := lw_g (lw_at lw_m4 205 rfl) rfl
theorem q1031 : (Jvm.Cond.code ({ cls := "ApartBench$Reader", name := "check", desc := "(ZI)V" } : Jvm.MethodName) prog_10_method_8_code (3 : Nat) (Option.none : Option Jvm.ClassFile.FieldType)) ∈ lw_all := lw_g (lw_at lw_m4 206 rfl) rfl
theorem q1032 : (Jvm.Cond.classLink "ApartBench$Reader" (107 : Nat) "ApartBench$Fault") ∈ lw_all := lw_g (lw_at lw_m4 207 rfl) rfl
theorem q1041 : (Jvm.Cond.methodLink "ApartBench$Reader" (109 : Nat) ({ cls := "ApartBench$Fault", name := "<init>", desc := "(II)V" } : Jvm.MethodName)) ∈ lw_all := lw_g (lw_at lw_m4 216 rfl) rfl
theorem q1055 : (Jvm.Cond.stringRef "ApartBench$Reader" (128 : Nat) "inn") ∈ lw_tbl := lw_at lw_m4 230 rfl
theorem q1056 : (Jvm.Cond.stringRef "ApartBench$Reader" (133 : Nat) "road") ∈ lw_tbl := lw_at lw_m4 231 rfl
theorem q1057 : (Jvm.Cond.methodLink "ApartBench$Reader" (138 : Nat) ({ cls := "ApartBench$Reader", name := "road", desc := "(LApartBench$Land;)V" } : Jvm.MethodName)) ∈ lw_all := lw_g (lw_at lw_m4 232 rfl) rfl
theorem q1058 : (Jvm.Cond.privateMethod ({ cls := "ApartBench$Reader", name := "road", desc := "(LApartBench$Land;)V" } : Jvm.MethodName)) ∈ lw_tbl := lw_at lw_m4 233 rfl
theorem q1059 : (Jvm.Cond.instanceMethod ({ cls := "ApartBench$Reader", name := "road", desc := "(LApartBench$Land;)V" } : Jvm.MethodName)) ∈ lw_all := lw_g (lw_at lw_m4 234 rfl) rfl
theorem q1060 : (Jvm.Cond.code ({ cls := "ApartBench$Reader", name := "road", desc := "(LApartBench$Land;)V" } : Jvm.MethodName) prog_10_method_14_code (4 : Nat) (Option.none : Option Jvm.ClassFile.FieldType)) ∈ lw_all := lw_g (lw_at lw_m4 235 rfl) rfl
theorem q1061 : (Jvm.Cond.methodLink "ApartBench$Reader" (195 : Nat) ({ cls := "ApartBench$Reader", name := "amongHere", desc := "(I)I" } : Jvm.MethodName)) ∈ lw_all := lw_g (lw_at lw_m4 236 rfl) rfl
theorem q1062 : (Jvm.Cond.privateMethod ({ cls := "ApartBench$Reader", name := "amongHere", desc := "(I)I" } : Jvm.MethodName)) ∈ lw_tbl := lw_at lw_m4 237 rfl
theorem q1063 : (Jvm.Cond.instanceMethod ({ cls := "ApartBench$Reader", name := "amongHere", desc := "(I)I" } : Jvm.MethodName)) ∈ lw_all := lw_g (lw_at lw_m4 238 rfl) rfl
theorem q1064 : (Jvm.Cond.code ({ cls := "ApartBench$Reader", name := "amongHere", desc := "(I)I" } : Jvm.MethodName) prog_10_method_12_code (2 : Nat) (Option.some Jvm.ClassFile.FieldType.int)) ∈ lw_all := lw_g (lw_at lw_m4 239 rfl) rfl
theorem q1065 : (Jvm.Cond.methodLink "ApartBench$Reader" (147 : Nat) ({ cls := "ApartBench$Reader", name := "number", desc := "(II)I" } : Jvm.MethodName)) ∈ lw_all := lw_g (lw_at lw_m5 0 rfl) rfl
theorem q1066 : (Jvm.Cond.privateMethod ({ cls := "ApartBench$Reader", name := "number", desc := "(II)I" } : Jvm.MethodName)) ∈ lw_tbl := lw_at lw_m5 1 rfl
theorem q1067 : (Jvm.Cond.instanceMethod ({ cls := "ApartBench$Reader", name := "number", desc := "(II)I" } : Jvm.MethodName)) ∈ lw_all := lw_g (lw_at lw_m5 2 rfl) rfl
theorem q1068 : (Jvm.Cond.code ({ cls := "ApartBench$Reader", name := "number", desc := "(II)I" } : Jvm.MethodName) prog_10_method_10_code (4 : Nat) (Option.some Jvm.ClassFile.FieldType.int)) ∈ lw_all := lw_g (lw_at lw_m5 3 rfl) rfl
theorem q1069 : (Jvm.Cond.stringRef "ApartBench$Reader" (141 : Nat) "gossip") ∈ lw_tbl := lw_at lw_m5 4 rfl
theorem q1070 : (Jvm.Cond.methodLink "ApartBench$Reader" (143 : Nat) ({ cls := "ApartBench$Reader", name := "begins", desc := "(Ljava/lang/String;I)Z" } : Jvm.MethodName)) ∈ lw_all := lw_g (lw_at lw_m5 5 rfl) rfl
theorem q1071 : (Jvm.Cond.privateMethod ({ cls := "ApartBench$Reader", name := "begins", desc := "(Ljava/lang/String;I)Z" } : Jvm.MethodName)) ∈ lw_tbl := lw_at lw_m5 6 rfl
theorem q1072 : (Jvm.Cond.instanceMethod ({ cls := "ApartBench$Reader", name := "begins", desc := "(Ljava/lang/String;I)Z" } : Jvm.MethodName)) ∈ lw_all := lw_g (lw_at lw_m5 7 rfl) rfl
theorem q1073 : (Jvm.Cond.code ({ cls := "ApartBench$Reader", name := "begins", desc := "(Ljava/lang/String;I)Z" } : Jvm.MethodName) prog_10_method_11_code (3 : Nat) (Option.some Jvm.ClassFile.FieldType.boolean)) ∈ lw_all := lw_g (lw_at lw_m5 8 rfl) rfl
theorem q1074 : (Jvm.Cond.stringRef "ApartBench$Reader" (153 : Nat) "law") ∈ lw_tbl := lw_at lw_m5 9 rfl
theorem q1075 : (Jvm.Cond.methodLink "ApartBench$Reader" (155 : Nat) ({ cls := "ApartBench$Reader", name := "expr", desc := "(I)LApartBench$Expr;" } : Jvm.MethodName)) ∈ lw_all := lw_g (lw_at lw_m5 10 rfl) rfl
theorem q1076 : (Jvm.Cond.privateMethod ({ cls := "ApartBench$Reader", name := "expr", desc := "(I)LApartBench$Expr;" } : Jvm.MethodName)) ∈ lw_tbl := lw_at lw_m5 11 rfl
theorem q1077 : (Jvm.Cond.instanceMethod ({ cls := "ApartBench$Reader", name := "expr", desc := "(I)LApartBench$Expr;" } : Jvm.MethodName)) ∈ lw_all := lw_g (lw_at lw_m5 12 rfl) rfl
theorem q1078 : (Jvm.Cond.code ({ cls := "ApartBench$Reader", name := "expr", desc := "(I)LApartBench$Expr;" } : Jvm.MethodName) prog_10_method_17_code (3 : Nat) (Option.some (Jvm.ClassFile.FieldType.object "ApartBench$Expr"))) ∈ lw_all := lw_g (lw_at lw_m5 13 rfl) rfl
theorem q1079 : (Jvm.Cond.stringRef "ApartBench$Reader" (221 : Nat) "(") ∈ lw_tbl := lw_at lw_m5 14 rfl
theorem q1080 : (Jvm.Cond.methodLink "ApartBench$Reader" (223 : Nat) ({ cls := "ApartBench$Reader", name := "and", desc := "(I)LApartBench$Expr;" } : Jvm.MethodName)) ∈ lw_all := lw_g (lw_at lw_m5 15 rfl) rfl
theorem q1081 : (Jvm.Cond.privateMethod ({ cls := "ApartBench$Reader", name := "and", desc := "(I)LApartBench$Expr;" } : Jvm.MethodName)) ∈ lw_tbl := lw_at lw_m5 16 rfl
theorem q1082 : (Jvm.Cond.instanceMethod ({ cls := "ApartBench$Reader", name := "and", desc := "(I)LApartBench$Expr;" } : Jvm.MethodName)) ∈ lw_all := lw_g (lw_at lw_m5 17 rfl) rfl
theorem q1083 : (Jvm.Cond.code ({ cls := "ApartBench$Reader", name := "and", desc := "(I)LApartBench$Expr;" } : Jvm.MethodName) prog_10_method_18_code (3 : Nat) (Option.some (Jvm.ClassFile.FieldType.object "ApartBench$Expr"))) ∈ lw_all := lw_g (lw_at lw_m5 18 rfl) rfl
theorem q1084 : (Jvm.Cond.methodLink "ApartBench$Reader" (233 : Nat) ({ cls := "ApartBench$Reader", name := "not", desc := "(I)LApartBench$Expr;" } : Jvm.MethodName)) ∈ lw_all := lw_g (lw_at lw_m5 19 rfl) rfl
theorem q1085 : (Jvm.Cond.privateMethod ({ cls := "ApartBench$Reader", name := "not", desc := "(I)LApartBench$Expr;" } : Jvm.MethodName)) ∈ lw_tbl := lw_at lw_m5 20 rfl
theorem q1086 : (Jvm.Cond.instanceMethod ({ cls := "ApartBench$Reader", name := "not", desc := "(I)LApartBench$Expr;" } : Jvm.MethodName)) ∈ lw_all := lw_g (lw_at lw_m5 21 rfl) rfl
theorem q1087 : (Jvm.Cond.code ({ cls := "ApartBench$Reader", name := "not", desc := "(I)LApartBench$Expr;" } : Jvm.MethodName) prog_10_method_19_code (5 : Nat) (Option.some (Jvm.ClassFile.FieldType.object "ApartBench$Expr"))) ∈ lw_all := lw_g (lw_at lw_m5 22 rfl) rfl
theorem q1088 : (Jvm.Cond.stringRef "ApartBench$Reader" (237 : Nat) "not") ∈ lw_tbl := lw_at lw_m5 23 rfl
theorem q1089 : (Jvm.Cond.methodLink "ApartBench$Reader" (238 : Nat) ({ cls := "ApartBench$Reader", name := "sum", desc := "(I)LApartBench$Expr;" } : Jvm.MethodName)) ∈ lw_all := lw_g (lw_at lw_m5 24 rfl) rfl
theorem q1090 : (Jvm.Cond.privateMethod ({ cls := "ApartBench$Reader", name := "sum", desc := "(I)LApartBench$Expr;" } : Jvm.MethodName)) ∈ lw_tbl := lw_at lw_m5 25 rfl
theorem q1091 : (Jvm.Cond.instanceMethod ({ cls := "ApartBench$Reader", name := "sum", desc := "(I)LApartBench$Expr;" } : Jvm.MethodName)) ∈ lw_all := lw_g (lw_at lw_m5 26 rfl) rfl
theorem q1092 : (Jvm.Cond.code ({ cls := "ApartBench$Reader", name := "sum", desc := "(I)LApartBench$Expr;" } : Jvm.MethodName) prog_10_method_20_code (4 : Nat) (Option.some (Jvm.ClassFile.FieldType.object "ApartBench$Expr"))) ∈ lw_all := lw_g (lw_at lw_m5 27 rfl) rfl
theorem q1093 : (Jvm.Cond.methodLink "ApartBench$Reader" (254 : Nat) ({ cls := "ApartBench$Reader", name := "product", desc := "(I)LApartBench$Expr;" } : Jvm.MethodName)) ∈ lw_all := lw_g (lw_at lw_m5 28 rfl) rfl
theorem q1094 : (Jvm.Cond.privateMethod ({ cls := "ApartBench$Reader", name := "product", desc := "(I)LApartBench$Expr;" } : Jvm.MethodName)) ∈ lw_tbl := lw_at lw_m5 29 rfl
theorem q1095 : (Jvm.Cond.instanceMethod ({ cls := "ApartBench$Reader", name := "product", desc := "(I)LApartBench$Expr;" } : Jvm.MethodName)) ∈ lw_all := lw_g (lw_at lw_m5 30 rfl) rfl
theorem q1096 : (Jvm.Cond.code ({ cls := "ApartBench$Reader", name := "product", desc := "(I)LApartBench$Expr;" } : Jvm.MethodName) prog_10_method_21_code (4 : Nat) (Option.some (Jvm.ClassFile.FieldType.object "ApartBench$Expr"))) ∈ lw_all := lw_g (lw_at lw_m5 31 rfl) rfl
theorem q1097 : (Jvm.Cond.methodLink "ApartBench$Reader" (261 : Nat) ({ cls := "ApartBench$Reader", name := "part", desc := "(I)LApartBench$Expr;" } : Jvm.MethodName)) ∈ lw_all := lw_g (lw_at lw_m5 32 rfl) rfl
theorem q1098 : (Jvm.Cond.privateMethod ({ cls := "ApartBench$Reader", name := "part", desc := "(I)LApartBench$Expr;" } : Jvm.MethodName)) ∈ lw_tbl := lw_at lw_m5 33 rfl
theorem q1099 : (Jvm.Cond.instanceMethod ({ cls := "ApartBench$Reader", name := "part", desc := "(I)LApartBench$Expr;" } : Jvm.MethodName)) ∈ lw_all := lw_g (lw_at lw_m5 34 rfl) rfl
theorem q1100 : (Jvm.Cond.code ({ cls := "ApartBench$Reader", name := "part", desc := "(I)LApartBench$Expr;" } : Jvm.MethodName) prog_10_method_22_code (3 : Nat) (Option.some (Jvm.ClassFile.FieldType.object "ApartBench$Expr"))) ∈ lw_all := lw_g (lw_at lw_m5 35 rfl) rfl
theorem q1101 : (Jvm.Cond.classLink "ApartBench$Reader" (268 : Nat) "ApartBench$Told") ∈ lw_all := lw_g (lw_at lw_m5 36 rfl) rfl
theorem q1103 : (Jvm.Cond.methodLink "ApartBench$Reader" (270 : Nat) ({ cls := "ApartBench$Told", name := "<init>", desc := "(I)V" } : Jvm.MethodName)) ∈ lw_all := lw_g (lw_at lw_m5 38 rfl) rfl
theorem q1114 : (Jvm.Cond.stringRef "ApartBench$Reader" (271 : Nat) ")") ∈ lw_tbl := lw_at lw_m5 49 rfl
theorem q1115 : (Jvm.Cond.methodLink "ApartBench$Reader" (188 : Nat) ({ cls := "ApartBench$Reader", name := "need", desc := "(Ljava/lang/String;)V" } : Jvm.MethodName)) ∈ lw_all := lw_g (lw_at lw_m5 50 rfl) rfl
theorem q1116 : (Jvm.Cond.privateMethod ({ cls := "ApartBench$Reader", name := "need", desc := "(Ljava/lang/String;)V" } : Jvm.MethodName)) ∈ lw_tbl := lw_at lw_m5 51 rfl
theorem q1117 : (Jvm.Cond.instanceMethod ({ cls := "ApartBench$Reader", name := "need", desc := "(Ljava/lang/String;)V" } : Jvm.MethodName)) ∈ lw_all := lw_g (lw_at lw_m5 52 rfl) rfl
theorem q1118 : (Jvm.Cond.code ({ cls := "ApartBench$Reader", name := "need", desc := "(Ljava/lang/String;)V" } : Jvm.MethodName) prog_10_method_9_code (2 : Nat) (Option.none : Option Jvm.ClassFile.FieldType)) ∈ lw_all := lw_g (lw_at lw_m5 53 rfl) rfl
theorem q1119 : (Jvm.Cond.methodLink "ApartBench$Reader" (273 : Nat) ({ cls := "ApartBench$Reader", name := "valueOf", desc := "(Ljava/lang/String;)LApartBench$Value;" } : Jvm.MethodName)) ∈ lw_all := lw_g (lw_at lw_m5 54 rfl) rfl
theorem q1120 : (Jvm.Cond.static ({ cls := "ApartBench$Reader", name := "valueOf", desc := "(Ljava/lang/String;)LApartBench$Value;" } : Jvm.MethodName)) ∈ lw_all := lw_g (lw_at lw_m5 55 rfl) rfl
theorem q1121 : (Jvm.Cond.code ({ cls := "ApartBench$Reader", name := "valueOf", desc := "(Ljava/lang/String;)LApartBench$Value;" } : Jvm.MethodName) prog_10_method_23_code (1 : Nat) (Option.some (Jvm.ClassFile.FieldType.object "ApartBench$Value"))) ∈ lw_all := lw_g (lw_at lw_m5 56 rfl) rfl
theorem q1122 : (Jvm.Cond.stringRef "ApartBench$Reader" (281 : Nat) "proof") ∈ lw_tbl := lw_at lw_m5 57 rfl
theorem q1123 : (Jvm.Cond.fieldLink "ApartBench$Reader" (283 : Nat) "ApartBench$Value" "PROOF" "LApartBench$Value;") ∈ lw_all := lw_g (lw_at lw_m5 58 rfl) rfl
theorem q1125 : (Jvm.Cond.stringRef "ApartBench$Reader" (289 : Nat) "harsh") ∈ lw_tbl := lw_at lw_m5 60 rfl
theorem q1126 : (Jvm.Cond.fieldLink "ApartBench$Reader" (291 : Nat) "ApartBench$Value" "HARSH" "LApartBench$Value;") ∈ lw_all := lw_g (lw_at lw_m5 61 rfl) rfl
theorem q1128 : (Jvm.Cond.stringRef "ApartBench$Reader" (294 : Nat) "day") ∈ lw_tbl := lw_at lw_m5 63 rfl
theorem q1129 : (Jvm.Cond.fieldLink "ApartBench$Reader" (296 : Nat) "ApartBench$Value" "DAY" "LApartBench$Value;") ∈ lw_all := lw_g (lw_at lw_m5 64 rfl) rfl
theorem q1131 : (Jvm.Cond.fieldLink "ApartBench$Reader" (299 : Nat) "ApartBench$Value" "TOWN" "LApartBench$Value;") ∈ lw_all := lw_g (lw_at lw_m5 66 rfl) rfl
theorem q1133 : (Jvm.Cond.stringRef "ApartBench$Reader" (302 : Nat) "said") ∈ lw_tbl := lw_at lw_m5 68 rfl
theorem q1134 : (Jvm.Cond.fieldLink "ApartBench$Reader" (304 : Nat) "ApartBench$Value" "SAID" "LApartBench$Value;") ∈ lw_all := lw_g (lw_at lw_m5 69 rfl) rfl
theorem q1136 : (Jvm.Cond.classLink "ApartBench$Reader" (276 : Nat) "ApartBench$Seen") ∈ lw_all := lw_g (lw_at lw_m5 71 rfl) rfl
theorem q1138 : (Jvm.Cond.methodLink "ApartBench$Reader" (278 : Nat) ({ cls := "ApartBench$Seen", name := "<init>", desc := "(LApartBench$Value;)V" } : Jvm.MethodName)) ∈ lw_all := lw_g (lw_at lw_m5 73 rfl) rfl
theorem q1146 : (Jvm.Cond.stringRef "ApartBench$Reader" (264 : Nat) "*") ∈ lw_tbl := lw_at lw_m5 81 rfl
theorem q1147 : (Jvm.Cond.stringRef "ApartBench$Reader" (266 : Nat) "/") ∈ lw_tbl := lw_at lw_m5 82 rfl
theorem q1148 : (Jvm.Cond.methodLink "ApartBench$Reader" (245 : Nat) ({ cls := "java/lang/String", name := "charAt", desc := "(I)C" } : Jvm.MethodName)) ∈ lw_all := lw_g (lw_at lw_m5 83 rfl) rfl
theorem q1163 : (Jvm.Cond.classLink "ApartBench$Reader" (228 : Nat) "ApartBench$Both") ∈ lw_all := lw_g (lw_at lw_m5 98 rfl) rfl
theorem q1165 : (Jvm.Cond.methodLink "ApartBench$Reader" (230 : Nat) ({ cls := "ApartBench$Both", name := "<init>", desc := "(CLApartBench$Expr;LApartBench$Expr;)V" } : Jvm.MethodName)) ∈ lw_all := lw_g (lw_at lw_m5 100 rfl) rfl
theorem q1179 : (Jvm.Cond.stringRef "ApartBench$Reader" (257 : Nat) "+") ∈ lw_tbl := lw_at lw_m5 114 rfl
theorem q1180 : (Jvm.Cond.stringRef "ApartBench$Reader" (259 : Nat) "-") ∈ lw_tbl := lw_at lw_m5 115 rfl
theorem q1181 : (Jvm.Cond.stringRef "ApartBench$Reader" (241 : Nat) "<") ∈ lw_tbl := lw_at lw_m5 116 rfl
theorem q1182 : (Jvm.Cond.stringRef "ApartBench$Reader" (243 : Nat) "=") ∈ lw_tbl := lw_at lw_m5 117 rfl
theorem q1183 : (Jvm.Cond.classLink "ApartBench$Reader" (249 : Nat) "ApartBench$Not") ∈ lw_all := lw_g (lw_at lw_m5 118 rfl) rfl
theorem q1185 : (Jvm.Cond.methodLink "ApartBench$Reader" (251 : Nat) ({ cls := "ApartBench$Not", name := "<init>", desc := "(LApartBench$Expr;)V" } : Jvm.MethodName)) ∈ lw_all := lw_g (lw_at lw_m5 120 rfl) rfl
theorem q1193 : (Jvm.Cond.stringRef "ApartBench$Reader" (236 : Nat) "and") ∈ lw_tbl := lw_at lw_m5 128 rfl
theorem q1194 : (Jvm.Cond.stringRef "ApartBench$Reader" (226 : Nat) "or") ∈ lw_tbl := lw_at lw_m5 129 rfl
theorem q1195 : (Jvm.Cond.stringRef "ApartBench$Reader" (162 : Nat) "case") ∈ lw_tbl := lw_at lw_m5 130 rfl
theorem q1196 : (Jvm.Cond.methodLink "ApartBench$Reader" (168 : Nat) ({ cls := "java/util/ArrayList", name := "size", desc := "()I" } : Jvm.MethodName)) ∈ lw_all := lw_g (lw_at lw_m5 131 rfl) rfl
theorem q1197 : (Jvm.Cond.methodLink "ApartBench$Reader" (172 : Nat) ({ cls := "ApartBench$Reader", name := "cause", desc := "(LApartBench$Land;)V" } : Jvm.MethodName)) ∈ lw_all := lw_g (lw_at lw_m5 132 rfl) rfl
theorem q1198 : (Jvm.Cond.privateMethod ({ cls := "ApartBench$Reader", name := "cause", desc := "(LApartBench$Land;)V" } : Jvm.MethodName)) ∈ lw_tbl := lw_at lw_m5 133 rfl
theorem q1199 : (Jvm.Cond.instanceMethod ({ cls := "ApartBench$Reader", name := "cause", desc := "(LApartBench$Land;)V" } : Jvm.MethodName)) ∈ lw_all := lw_g (lw_at lw_m5 134 rfl) rfl
theorem q1200 : (Jvm.Cond.code ({ cls := "ApartBench$Reader", name := "cause", desc := "(LApartBench$Land;)V" } : Jvm.MethodName) prog_10_method_16_code (5 : Nat) (Option.none : Option Jvm.ClassFile.FieldType)) ∈ lw_all := lw_g (lw_at lw_m5 135 rfl) rfl
theorem q1201 : (Jvm.Cond.methodLink "ApartBench$Reader" (218 : Nat) ({ cls := "java/util/ArrayList", name := "add", desc := "(Ljava/lang/Object;)Z" } : Jvm.MethodName)) ∈ lw_all := lw_g (lw_at lw_m5 136 rfl) rfl
theorem q1202 : (Jvm.Cond.stringRef "ApartBench$Reader" (175 : Nat) "judge") ∈ lw_tbl := lw_at lw_m5 137 rfl
theorem q1203 : (Jvm.Cond.stringRef "ApartBench$Reader" (177 : Nat) "deaf") ∈ lw_tbl := lw_at lw_m5 138 rfl
theorem q1204 : (Jvm.Cond.stringRef "ApartBench$Reader" (179 : Nat) "wise") ∈ lw_tbl := lw_at lw_m5 139 rfl
theorem q1205 : (Jvm.Cond.methodLink "ApartBench$Reader" (184 : Nat) ({ cls := "ApartBench$Reader", name := "judge", desc := "(LApartBench$Land;)V" } : Jvm.MethodName)) ∈ lw_all := lw_g (lw_at lw_m5 140 rfl) rfl
theorem q1206 : (Jvm.Cond.privateMethod ({ cls := "ApartBench$Reader", name := "judge", desc := "(LApartBench$Land;)V" } : Jvm.MethodName)) ∈ lw_tbl := lw_at lw_m5 141 rfl
theorem q1207 : (Jvm.Cond.instanceMethod ({ cls := "ApartBench$Reader", name := "judge", desc := "(LApartBench$Land;)V" } : Jvm.MethodName)) ∈ lw_all := lw_g (lw_at lw_m5 142 rfl) rfl
theorem q1208 : (Jvm.Cond.code ({ cls := "ApartBench$Reader", name := "judge", desc := "(LApartBench$Land;)V" } : Jvm.MethodName) prog_10_method_15_code (8 : Nat) (Option.none : Option Jvm.ClassFile.FieldType)) ∈ lw_all := lw_g (lw_at lw_m5 143 rfl) rfl
theorem q1209 : (Jvm.Cond.methodLink "ApartBench$Reader" (201 : Nat) ({ cls := "java/lang/System", name := "arraycopy", desc := "(Ljava/lang/Object;ILjava/lang/Object;II)V" } : Jvm.MethodName)) ∈ lw_all := lw_g (lw_at lw_m5 144 rfl) rfl
theorem q1210 : (Jvm.Cond.classLink "ApartBench$Reader" (207 : Nat) "ApartBench$Deaf") ∈ lw_all := lw_g (lw_at lw_m5 145 rfl) rfl
theorem q1212 : (Jvm.Cond.methodLink "ApartBench$Reader" (209 : Nat) ({ cls := "ApartBench$Deaf", name := "<init>", desc := "(II[I)V" } : Jvm.MethodName)) ∈ lw_all := lw_g (lw_at lw_m5 147 rfl) rfl
theorem q1232 : (Jvm.Cond.classLink "ApartBench$Reader" (212 : Nat) "ApartBench$Wise") ∈ lw_all := lw_g (lw_at lw_m5 167 rfl) rfl
theorem q1234 : (Jvm.Cond.methodLink "ApartBench$Reader" (214 : Nat) ({ cls := "ApartBench$Wise", name := "<init>", desc := "(II[I)V" } : Jvm.MethodName)) ∈ lw_all := lw_g (lw_at lw_m5 169 rfl) rfl
theorem q1242 : (Jvm.Cond.classLink "ApartBench$Reader" (215 : Nat) "ApartBench$Judge") ∈ lw_all := lw_g (lw_at lw_m5 177 rfl) rfl
theorem q1244 : (Jvm.Cond.methodLink "ApartBench$Reader" (217 : Nat) ({ cls := "ApartBench$Judge", name := "<init>", desc := "(II[I)V" } : Jvm.MethodName)) ∈ lw_all := lw_g (lw_at lw_m5 179 rfl) rfl
theorem q1249 : (Jvm.Cond.stringRef "ApartBench$Reader" (186 : Nat) ";") ∈ lw_tbl := lw_at lw_m5 184 rfl
theorem q1250 : (Jvm.Cond.methodLink "ApartBench$Reader" (192 : Nat) ({ cls := "ApartBench$Land", name := "measures", desc := "()V" } : Jvm.MethodName)) ∈ lw_all := lw_g (lw_at lw_m5 185 rfl) rfl
theorem q2359 : (Jvm.Cond.castable "ApartBench$Reader" "java/lang/Object") ∈ lw_tbl := lw_at lw_m10 94 rfl
theorem in_X9 : ∀ w ∈ wsX90, w ∈ lw_all := lw_in wsX90 [991, 993, 995, 997, 999, 1001, 1003, 1005, 1007] (by decide +kernel) (by decide +kernel)

/-! ApartBench$Fault -/
set_option maxRecDepth 100000
def RX10 : String := "ApartBench$Fault"
def TX10 : u_T := fun k => match k with
  | 0 => ("java/lang/Throwable", "cause", "Ljava/lang/Throwable;", false)
  | 1 => ("java/lang/Throwable", "stackTrace", "[Ljava/lang/StackTraceElement;", false)
  | 2 => ("java/lang/Throwable", "suppressedExceptions", "Ljava/util/List;", false)
  | 3 => ("java/lang/Throwable", "detailMessage", "Ljava/lang/String;", false)
  | 4 => ("java/lang/Throwable", "backtrace", "Ljava/lang/Object;", false)
  | 5 => ("java/lang/Throwable", "depth", "I", false)
  | 6 => ("ApartBench$Fault", "kind", "I", true)
  | _ => ("ApartBench$Fault", "place", "I", true)
def tyX10 : Nat → FieldType := fun k => match k with
  | 0 => .object "java/lang/Throwable"
  | 1 => .array (.object "java/lang/StackTraceElement")
  | 2 => .object "java/util/List"
  | 3 => .object "java/lang/String"
  | 4 => .object "java/lang/Object"
  | 5 => .int
  | 6 => .int
  | _ => .int
abbrev wsX100 : List Cond := u_ws RX10 TX10 8
theorem nmX10 : ∀ a, a < 8 → ∀ b, b < 8 → a ≠ b → (TX10 a).2.1 ≠ (TX10 b).2.1 := by decide +kernel
theorem tyX10_ok : ∀ k, k < 8 → parseFieldDescriptor (TX10 k).2.2.1 = some (tyX10 k) := by decide +kernel
abbrev cX10_init : ByteArray := prog_6_method_1_code
def yX10_init : MethodName := ⟨RX10, "<init>", "(II)V"⟩
def dkwX10_init_0 : List UInt8 := [42, 183, 0, 1, 42, 27, 181, 0, 7, 42, 28, 181, 0, 13, 177]
abbrev dktX10_init_0 : List UInt8 := dkwX10_init_0 ++ []
theorem dksX10_init_0 : cX10_init.data.toList.drop 0 = dktX10_init_0 := by decide +kernel
theorem dX10_init_0 : decode cX10_init 0 = .ok (.aload_n 0, 1) := dk_42 (dk_at dksX10_init_0 0 rfl rfl)
theorem dX10_init_1 : decode cX10_init 1 = .ok (.invokespecial 1, 3) := dk_183 0 1 (dk_at dksX10_init_0 1 rfl rfl)
theorem dX10_init_4 : decode cX10_init 4 = .ok (.aload_n 0, 1) := dk_42 (dk_at dksX10_init_0 4 rfl rfl)
theorem dX10_init_5 : decode cX10_init 5 = .ok (.iload_n 1, 1) := dk_27 (dk_at dksX10_init_0 5 rfl rfl)
theorem dX10_init_6 : decode cX10_init 6 = .ok (.putfield 7, 3) := dk_181 0 7 (dk_at dksX10_init_0 6 rfl rfl)
theorem dX10_init_9 : decode cX10_init 9 = .ok (.aload_n 0, 1) := dk_42 (dk_at dksX10_init_0 9 rfl rfl)
theorem dX10_init_10 : decode cX10_init 10 = .ok (.iload_n 2, 1) := dk_28 (dk_at dksX10_init_0 10 rfl rfl)
theorem dX10_init_11 : decode cX10_init 11 = .ok (.putfield 13, 3) := dk_181 0 13 (dk_at dksX10_init_0 11 rfl rfl)
theorem dX10_init_14 : decode cX10_init 14 = .ok (.return_, 1) := dk_177 (dk_at dksX10_init_0 14 rfl rfl)
theorem q137 : (Jvm.Cond.initialized "ApartBench$Fault") ∈ lw_all := lw_g (lw_at lw_m1 32 rfl) rfl
theorem q210 : (Jvm.Cond.selects "ApartBench$Fault" ({ cls := "java/lang/Throwable", name := "fillInStackTrace", desc := "()Ljava/lang/Throwable;" } : Jvm.MethodName) ({ cls := "java/lang/Throwable", name := "fillInStackTrace", desc := "()Ljava/lang/Throwable;" } : Jvm.MethodName)) ∈ lw_all := lw_g (lw_at lw_m1 105 rfl) rfl
theorem q671 : (Jvm.Cond.selects "ApartBench$Fault" ({ cls := "java/lang/Object", name := "getClass", desc := "()Ljava/lang/Class;" } : Jvm.MethodName) ({ cls := "java/lang/Object", name := "getClass", desc := "()Ljava/lang/Class;" } : Jvm.MethodName)) ∈ lw_all := lw_g (lw_at lw_m3 86 rfl) rfl
theorem q1033 : (Jvm.Cond.instantiable "ApartBench$Fault" (8 : Nat)) ∈ lw_all := lw_g (lw_at lw_m4 208 rfl) rfl
theorem q1034 : (Jvm.Cond.castable "ApartBench$Fault" "ApartBench$Fault") ∈ lw_tbl := lw_at lw_m4 209 rfl
theorem q1035 : (Jvm.Cond.selects "ApartBench$Fault" ({ cls := "java/lang/Throwable", name := "fillInStackTrace", desc := "(I)Ljava/lang/Throwable;" } : Jvm.MethodName) ({ cls := "java/lang/Throwable", name := "fillInStackTrace", desc := "(I)Ljava/lang/Throwable;" } : Jvm.MethodName)) ∈ lw_all := lw_g (lw_at lw_m4 210 rfl) rfl
theorem q1036 : (Jvm.Cond.lays "ApartBench$Fault" "java/lang/Throwable" "cause" "Ljava/lang/Throwable;") ∈ lw_all := lw_g (lw_at lw_m4 211 rfl) rfl
theorem q1037 : (Jvm.Cond.lays "ApartBench$Fault" "java/lang/Throwable" "stackTrace" "[Ljava/lang/StackTraceElement;") ∈ lw_all := lw_g (lw_at lw_m4 212 rfl) rfl
theorem q1038 : (Jvm.Cond.lays "ApartBench$Fault" "java/lang/Throwable" "suppressedExceptions" "Ljava/util/List;") ∈ lw_all := lw_g (lw_at lw_m4 213 rfl) rfl
theorem q1039 : (Jvm.Cond.lays "ApartBench$Fault" "java/lang/Throwable" "detailMessage" "Ljava/lang/String;") ∈ lw_all := lw_g (lw_at lw_m4 214 rfl) rfl
theorem q1040 : (Jvm.Cond.lays "ApartBench$Fault" "java/lang/Throwable" "backtrace" "Ljava/lang/Object;") ∈ lw_all := lw_g (lw_at lw_m4 215 rfl) rfl
theorem q1042 : (Jvm.Cond.instanceMethod ({ cls := "ApartBench$Fault", name := "<init>", desc := "(II)V" } : Jvm.MethodName)) ∈ lw_all := lw_g (lw_at lw_m4 217 rfl) rfl
theorem q1043 : (Jvm.Cond.code ({ cls := "ApartBench$Fault", name := "<init>", desc := "(II)V" } : Jvm.MethodName) prog_6_method_1_code (3 : Nat) (Option.none : Option Jvm.ClassFile.FieldType)) ∈ lw_all := lw_g (lw_at lw_m4 218 rfl) rfl
theorem q1044 : (Jvm.Cond.methodLink "ApartBench$Fault" (1 : Nat) ({ cls := "java/lang/Exception", name := "<init>", desc := "()V" } : Jvm.MethodName)) ∈ lw_all := lw_g (lw_at lw_m4 219 rfl) rfl
theorem q1045 : (Jvm.Cond.fieldLink "ApartBench$Fault" (7 : Nat) "ApartBench$Fault" "kind" "I") ∈ lw_all := lw_g (lw_at lw_m4 220 rfl) rfl
theorem q1047 : (Jvm.Cond.fieldLink "ApartBench$Fault" (13 : Nat) "ApartBench$Fault" "place" "I") ∈ lw_all := lw_g (lw_at lw_m4 222 rfl) rfl
theorem q1049 : (Jvm.Cond.laysFinal "ApartBench$Fault" "ApartBench$Fault" "kind" "I") ∈ lw_all := lw_g (lw_at lw_m4 224 rfl) rfl
theorem q1050 : (Jvm.Cond.soleField "ApartBench$Fault" "kind") ∈ lw_all := lw_g (lw_at lw_m4 225 rfl) rfl
theorem q1051 : (Jvm.Cond.laysFinal "ApartBench$Fault" "ApartBench$Fault" "place" "I") ∈ lw_all := lw_g (lw_at lw_m4 226 rfl) rfl
theorem q1052 : (Jvm.Cond.soleField "ApartBench$Fault" "place") ∈ lw_all := lw_g (lw_at lw_m4 227 rfl) rfl
theorem q1053 : (Jvm.Cond.lays "ApartBench$Fault" "java/lang/Throwable" "depth" "I") ∈ lw_all := lw_g (lw_at lw_m4 228 rfl) rfl
theorem q1054 : (Jvm.Cond.superclass "ApartBench$Fault" "java/lang/Exception") ∈ lw_all := lw_g (lw_at lw_m4 229 rfl) rfl
theorem q2361 : (Jvm.Cond.castable "ApartBench$Fault" "java/lang/Object") ∈ lw_tbl := lw_at lw_m10 96 rfl
theorem in_X10 : ∀ w ∈ wsX100, w ∈ lw_all := lw_in wsX100 [1036, 1037, 1038, 1039, 1040, 1053, 1049, 1051] (by decide +kernel) (by decide +kernel)

/-! ApartBench$Expr -/
set_option maxRecDepth 100000
def RX11 : String := "ApartBench$Expr"
abbrev cX11_init : ByteArray := prog_5_method_1_code
def yX11_init : MethodName := ⟨RX11, "<init>", "()V"⟩
theorem dX11_init_0 : decode cX11_init 0 = .ok (.aload_n 0, 1) := by decide +kernel
theorem dX11_init_1 : decode cX11_init 1 = .ok (.invokespecial 1, 3) := by decide +kernel
theorem dX11_init_4 : decode cX11_init 4 = .ok (.return_, 1) := by decide +kernel
theorem q138 : (Jvm.Cond.initialized "ApartBench$Expr") ∈ lw_all := lw_g (lw_at lw_m1 33 rfl) rfl
theorem q1107 : (Jvm.Cond.instanceMethod ({ cls := "ApartBench$Expr", name := "<init>", desc := "()V" } : Jvm.MethodName)) ∈ lw_all := lw_g (lw_at lw_m5 42 rfl) rfl
theorem q1108 : (Jvm.Cond.code ({ cls := "ApartBench$Expr", name := "<init>", desc := "()V" } : Jvm.MethodName) prog_5_method_1_code (1 : Nat) (Option.none : Option Jvm.ClassFile.FieldType)) ∈ lw_all := lw_g (lw_at lw_m5 43 rfl) rfl
theorem q1109 : (Jvm.Cond.methodLink "ApartBench$Expr" (1 : Nat) ({ cls := "java/lang/Object", name := "<init>", desc := "()V" } : Jvm.MethodName)) ∈ lw_all := lw_g (lw_at lw_m5 44 rfl) rfl
theorem q1363 : (Jvm.Cond.declares ({ cls := "ApartBench$Expr", name := "by", desc := "(LApartBench$View;)I" } : Jvm.MethodName)) ∈ lw_tbl := lw_at lw_m6 58 rfl
theorem q1364 : (Jvm.Cond.sameMethod "ApartBench$Expr" "ApartBench$Expr" "by" "(LApartBench$View;)I") ∈ lw_all := lw_g (lw_at lw_m6 59 rfl) rfl

/-! ApartBench$Told -/
set_option maxRecDepth 100000
def RX12 : String := "ApartBench$Told"
def TX12 : u_T := fun k => match k with
  | _ => ("ApartBench$Told", "n", "I", true)
def tyX12 : Nat → FieldType := fun k => match k with
  | _ => .int
abbrev wsX120 : List Cond := u_ws RX12 TX12 1
theorem nmX12 : ∀ a, a < 1 → ∀ b, b < 1 → a ≠ b → (TX12 a).2.1 ≠ (TX12 b).2.1 := by decide +kernel
theorem tyX12_ok : ∀ k, k < 1 → parseFieldDescriptor (TX12 k).2.2.1 = some (tyX12 k) := by decide +kernel
abbrev cX12_init : ByteArray := prog_14_method_1_code
def yX12_init : MethodName := ⟨RX12, "<init>", "(I)V"⟩
def dkwX12_init_0 : List UInt8 := [42, 183, 0, 1, 42, 27, 181, 0, 7, 177]
abbrev dktX12_init_0 : List UInt8 := dkwX12_init_0 ++ []
theorem dksX12_init_0 : cX12_init.data.toList.drop 0 = dktX12_init_0 := by decide +kernel
theorem dX12_init_0 : decode cX12_init 0 = .ok (.aload_n 0, 1) := dk_42 (dk_at dksX12_init_0 0 rfl rfl)
theorem dX12_init_1 : decode cX12_init 1 = .ok (.invokespecial 1, 3) := dk_183 0 1 (dk_at dksX12_init_0 1 rfl rfl)
theorem dX12_init_4 : decode cX12_init 4 = .ok (.aload_n 0, 1) := dk_42 (dk_at dksX12_init_0 4 rfl rfl)
theorem dX12_init_5 : decode cX12_init 5 = .ok (.iload_n 1, 1) := dk_27 (dk_at dksX12_init_0 5 rfl rfl)
theorem dX12_init_6 : decode cX12_init 6 = .ok (.putfield 7, 3) := dk_181 0 7 (dk_at dksX12_init_0 6 rfl rfl)
theorem dX12_init_9 : decode cX12_init 9 = .ok (.return_, 1) := dk_177 (dk_at dksX12_init_0 9 rfl rfl)
abbrev cX12_by : ByteArray := prog_14_method_2_code
def yX12_by : MethodName := ⟨RX12, "by", "(LApartBench$View;)I"⟩
theorem dX12_by_0 : decode cX12_by 0 = .ok (.aload_n 0, 1) := by decide +kernel
theorem dX12_by_1 : decode cX12_by 1 = .ok (.getfield 7, 3) := by decide +kernel
theorem dX12_by_4 : decode cX12_by 4 = .ok (.ireturn, 1) := by decide +kernel
theorem q139 : (Jvm.Cond.initialized "ApartBench$Told") ∈ lw_all := lw_g (lw_at lw_m1 34 rfl) rfl
theorem q679 : (Jvm.Cond.selects "ApartBench$Told" ({ cls := "java/lang/Object", name := "getClass", desc := "()Ljava/lang/Class;" } : Jvm.MethodName) ({ cls := "java/lang/Object", name := "getClass", desc := "()Ljava/lang/Class;" } : Jvm.MethodName)) ∈ lw_all := lw_g (lw_at lw_m3 94 rfl) rfl
theorem q1102 : (Jvm.Cond.instantiable "ApartBench$Told" (1 : Nat)) ∈ lw_all := lw_g (lw_at lw_m5 37 rfl) rfl
theorem q1104 : (Jvm.Cond.instanceMethod ({ cls := "ApartBench$Told", name := "<init>", desc := "(I)V" } : Jvm.MethodName)) ∈ lw_all := lw_g (lw_at lw_m5 39 rfl) rfl
theorem q1105 : (Jvm.Cond.code ({ cls := "ApartBench$Told", name := "<init>", desc := "(I)V" } : Jvm.MethodName) prog_14_method_1_code (2 : Nat) (Option.none : Option Jvm.ClassFile.FieldType)) ∈ lw_all := lw_g (lw_at lw_m5 40 rfl) rfl
theorem q1106 : (Jvm.Cond.methodLinkNest "ApartBench$Told" (1 : Nat) ({ cls := "ApartBench$Expr", name := "<init>", desc := "()V" } : Jvm.MethodName) "ApartBench") ∈ lw_tbl := lw_at lw_m5 41 rfl
theorem q1110 : (Jvm.Cond.fieldLink "ApartBench$Told" (7 : Nat) "ApartBench$Told" "n" "I") ∈ lw_all := lw_g (lw_at lw_m5 45 rfl) rfl
theorem q1111 : (Jvm.Cond.laysFinal "ApartBench$Told" "ApartBench$Told" "n" "I") ∈ lw_all := lw_g (lw_at lw_m5 46 rfl) rfl
theorem q1112 : (Jvm.Cond.soleField "ApartBench$Told" "n") ∈ lw_all := lw_g (lw_at lw_m5 47 rfl) rfl
theorem q1113 : (Jvm.Cond.superclass "ApartBench$Told" "ApartBench$Expr") ∈ lw_all := lw_g (lw_at lw_m5 48 rfl) rfl
theorem q1375 : (Jvm.Cond.instanceMethod ({ cls := "ApartBench$Told", name := "by", desc := "(LApartBench$View;)I" } : Jvm.MethodName)) ∈ lw_all := lw_g (lw_at lw_m6 70 rfl) rfl
theorem q1376 : (Jvm.Cond.code ({ cls := "ApartBench$Told", name := "by", desc := "(LApartBench$View;)I" } : Jvm.MethodName) prog_14_method_2_code (2 : Nat) (Option.some Jvm.ClassFile.FieldType.int)) ∈ lw_all := lw_g (lw_at lw_m6 71 rfl) rfl
theorem q1379 : (Jvm.Cond.selects "ApartBench$Told" ({ cls := "ApartBench$Expr", name := "by", desc := "(LApartBench$View;)I" } : Jvm.MethodName) ({ cls := "ApartBench$Told", name := "by", desc := "(LApartBench$View;)I" } : Jvm.MethodName)) ∈ lw_all := lw_g (lw_at lw_m6 74 rfl) rfl
theorem q2362 : (Jvm.Cond.castable "ApartBench$Told" "java/lang/Object") ∈ lw_tbl := lw_at lw_m10 97 rfl
theorem in_X12 : ∀ w ∈ wsX120, w ∈ lw_all := lw_in wsX120 [1111] (by decide +kernel) (by decide +kernel)

/-! ApartBench$Seen -/
set_option maxRecDepth 100000
def RX13 : String := "ApartBench$Seen"
def TX13 : u_T := fun k => match k with
  | _ => ("ApartBench$Seen", "value", "LApartBench$Value;", true)
def tyX13 : Nat → FieldType := fun k => match k with
  | _ => .object "ApartBench$Value"
abbrev wsX130 : List Cond := u_ws RX13 TX13 1
theorem nmX13 : ∀ a, a < 1 → ∀ b, b < 1 → a ≠ b → (TX13 a).2.1 ≠ (TX13 b).2.1 := by decide +kernel
theorem tyX13_ok : ∀ k, k < 1 → parseFieldDescriptor (TX13 k).2.2.1 = some (tyX13 k) := by decide +kernel
abbrev cX13_init : ByteArray := prog_11_method_1_code
def yX13_init : MethodName := ⟨RX13, "<init>", "(LApartBench$Value;)V"⟩
def dkwX13_init_0 : List UInt8 := [42, 183, 0, 1, 42, 43, 181, 0, 7, 177]
abbrev dktX13_init_0 : List UInt8 := dkwX13_init_0 ++ []
theorem dksX13_init_0 : cX13_init.data.toList.drop 0 = dktX13_init_0 := by decide +kernel
theorem dX13_init_0 : decode cX13_init 0 = .ok (.aload_n 0, 1) := dk_42 (dk_at dksX13_init_0 0 rfl rfl)
theorem dX13_init_1 : decode cX13_init 1 = .ok (.invokespecial 1, 3) := dk_183 0 1 (dk_at dksX13_init_0 1 rfl rfl)
theorem dX13_init_4 : decode cX13_init 4 = .ok (.aload_n 0, 1) := dk_42 (dk_at dksX13_init_0 4 rfl rfl)
theorem dX13_init_5 : decode cX13_init 5 = .ok (.aload_n 1, 1) := dk_43 (dk_at dksX13_init_0 5 rfl rfl)
theorem dX13_init_6 : decode cX13_init 6 = .ok (.putfield 7, 3) := dk_181 0 7 (dk_at dksX13_init_0 6 rfl rfl)
theorem dX13_init_9 : decode cX13_init 9 = .ok (.return_, 1) := dk_177 (dk_at dksX13_init_0 9 rfl rfl)
abbrev cX13_by : ByteArray := prog_11_method_2_code
def yX13_by : MethodName := ⟨RX13, "by", "(LApartBench$View;)I"⟩
def dkwX13_by_0 : List UInt8 := [43, 180, 0, 13, 42, 180, 0, 7, 182, 0, 19, 46, 172]
abbrev dktX13_by_0 : List UInt8 := dkwX13_by_0 ++ []
theorem dksX13_by_0 : cX13_by.data.toList.drop 0 = dktX13_by_0 := by decide +kernel
theorem dX13_by_0 : decode cX13_by 0 = .ok (.aload_n 1, 1) := dk_43 (dk_at dksX13_by_0 0 rfl rfl)
theorem dX13_by_1 : decode cX13_by 1 = .ok (.getfield 13, 3) := dk_180 0 13 (dk_at dksX13_by_0 1 rfl rfl)
theorem dX13_by_4 : decode cX13_by 4 = .ok (.aload_n 0, 1) := dk_42 (dk_at dksX13_by_0 4 rfl rfl)
theorem dX13_by_5 : decode cX13_by 5 = .ok (.getfield 7, 3) := dk_180 0 7 (dk_at dksX13_by_0 5 rfl rfl)
theorem dX13_by_8 : decode cX13_by 8 = .ok (.invokevirtual 19, 3) := dk_182 0 19 (dk_at dksX13_by_0 8 rfl rfl)
theorem dX13_by_11 : decode cX13_by 11 = .ok (.iaload, 1) := dk_46 (dk_at dksX13_by_0 11 rfl rfl)
theorem dX13_by_12 : decode cX13_by 12 = .ok (.ireturn, 1) := dk_172 (dk_at dksX13_by_0 12 rfl rfl)
theorem q140 : (Jvm.Cond.initialized "ApartBench$Seen") ∈ lw_all := lw_g (lw_at lw_m1 35 rfl) rfl
theorem q520 : (Jvm.Cond.fieldLinkNest "ApartBench$Seen" (13 : Nat) "ApartBench$View" "of" "[I" "ApartBench") ∈ lw_tbl := lw_at lw_m2 175 rfl
theorem q676 : (Jvm.Cond.selects "ApartBench$Seen" ({ cls := "java/lang/Object", name := "getClass", desc := "()Ljava/lang/Class;" } : Jvm.MethodName) ({ cls := "java/lang/Object", name := "getClass", desc := "()Ljava/lang/Class;" } : Jvm.MethodName)) ∈ lw_all := lw_g (lw_at lw_m3 91 rfl) rfl
theorem q1137 : (Jvm.Cond.instantiable "ApartBench$Seen" (1 : Nat)) ∈ lw_all := lw_g (lw_at lw_m5 72 rfl) rfl
theorem q1139 : (Jvm.Cond.instanceMethod ({ cls := "ApartBench$Seen", name := "<init>", desc := "(LApartBench$Value;)V" } : Jvm.MethodName)) ∈ lw_all := lw_g (lw_at lw_m5 74 rfl) rfl
theorem q1140 : (Jvm.Cond.code ({ cls := "ApartBench$Seen", name := "<init>", desc := "(LApartBench$Value;)V" } : Jvm.MethodName) prog_11_method_1_code (2 : Nat) (Option.none : Option Jvm.ClassFile.FieldType)) ∈ lw_all := lw_g (lw_at lw_m5 75 rfl) rfl
theorem q1141 : (Jvm.Cond.methodLinkNest "ApartBench$Seen" (1 : Nat) ({ cls := "ApartBench$Expr", name := "<init>", desc := "()V" } : Jvm.MethodName) "ApartBench") ∈ lw_tbl := lw_at lw_m5 76 rfl
theorem q1142 : (Jvm.Cond.fieldLink "ApartBench$Seen" (7 : Nat) "ApartBench$Seen" "value" "LApartBench$Value;") ∈ lw_all := lw_g (lw_at lw_m5 77 rfl) rfl
theorem q1143 : (Jvm.Cond.laysFinal "ApartBench$Seen" "ApartBench$Seen" "value" "LApartBench$Value;") ∈ lw_all := lw_g (lw_at lw_m5 78 rfl) rfl
theorem q1144 : (Jvm.Cond.soleField "ApartBench$Seen" "value") ∈ lw_all := lw_g (lw_at lw_m5 79 rfl) rfl
theorem q1145 : (Jvm.Cond.superclass "ApartBench$Seen" "ApartBench$Expr") ∈ lw_all := lw_g (lw_at lw_m5 80 rfl) rfl
theorem q1372 : (Jvm.Cond.instanceMethod ({ cls := "ApartBench$Seen", name := "by", desc := "(LApartBench$View;)I" } : Jvm.MethodName)) ∈ lw_all := lw_g (lw_at lw_m6 67 rfl) rfl
theorem q1373 : (Jvm.Cond.code ({ cls := "ApartBench$Seen", name := "by", desc := "(LApartBench$View;)I" } : Jvm.MethodName) prog_11_method_2_code (2 : Nat) (Option.some Jvm.ClassFile.FieldType.int)) ∈ lw_all := lw_g (lw_at lw_m6 68 rfl) rfl
theorem q1374 : (Jvm.Cond.methodLink "ApartBench$Seen" (19 : Nat) ({ cls := "ApartBench$Value", name := "ordinal", desc := "()I" } : Jvm.MethodName)) ∈ lw_all := lw_g (lw_at lw_m6 69 rfl) rfl
theorem q1378 : (Jvm.Cond.selects "ApartBench$Seen" ({ cls := "ApartBench$Expr", name := "by", desc := "(LApartBench$View;)I" } : Jvm.MethodName) ({ cls := "ApartBench$Seen", name := "by", desc := "(LApartBench$View;)I" } : Jvm.MethodName)) ∈ lw_all := lw_g (lw_at lw_m6 73 rfl) rfl
theorem q2363 : (Jvm.Cond.castable "ApartBench$Seen" "java/lang/Object") ∈ lw_tbl := lw_at lw_m10 98 rfl
theorem in_X13 : ∀ w ∈ wsX130, w ∈ lw_all := lw_in wsX130 [1143] (by decide +kernel) (by decide +kernel)

/-! ApartBench$Both -/
set_option maxRecDepth 100000
def RX14 : String := "ApartBench$Both"
def TX14 : u_T := fun k => match k with
  | 0 => ("ApartBench$Both", "act", "C", true)
  | 1 => ("ApartBench$Both", "left", "LApartBench$Expr;", true)
  | _ => ("ApartBench$Both", "right", "LApartBench$Expr;", true)
def tyX14 : Nat → FieldType := fun k => match k with
  | 0 => .char
  | 1 => .object "ApartBench$Expr"
  | _ => .object "ApartBench$Expr"
abbrev wsX140 : List Cond := u_ws RX14 TX14 3
theorem nmX14 : ∀ a, a < 3 → ∀ b, b < 3 → a ≠ b → (TX14 a).2.1 ≠ (TX14 b).2.1 := by decide +kernel
theorem tyX14_ok : ∀ k, k < 3 → parseFieldDescriptor (TX14 k).2.2.1 = some (tyX14 k) := by decide +kernel
abbrev cX14_init : ByteArray := prog_3_method_1_code
def yX14_init : MethodName := ⟨RX14, "<init>", "(CLApartBench$Expr;LApartBench$Expr;)V"⟩
def dkwX14_init_0 : List UInt8 := [42, 183, 0, 1, 42, 27, 181, 0, 7, 42, 44, 181, 0, 13, 42, 45, 181, 0, 17, 177]
abbrev dktX14_init_0 : List UInt8 := dkwX14_init_0 ++ []
theorem dksX14_init_0 : cX14_init.data.toList.drop 0 = dktX14_init_0 := by decide +kernel
theorem dX14_init_0 : decode cX14_init 0 = .ok (.aload_n 0, 1) := dk_42 (dk_at dksX14_init_0 0 rfl rfl)
theorem dX14_init_1 : decode cX14_init 1 = .ok (.invokespecial 1, 3) := dk_183 0 1 (dk_at dksX14_init_0 1 rfl rfl)
theorem dX14_init_4 : decode cX14_init 4 = .ok (.aload_n 0, 1) := dk_42 (dk_at dksX14_init_0 4 rfl rfl)
theorem dX14_init_5 : decode cX14_init 5 = .ok (.iload_n 1, 1) := dk_27 (dk_at dksX14_init_0 5 rfl rfl)
theorem dX14_init_6 : decode cX14_init 6 = .ok (.putfield 7, 3) := dk_181 0 7 (dk_at dksX14_init_0 6 rfl rfl)
theorem dX14_init_9 : decode cX14_init 9 = .ok (.aload_n 0, 1) := dk_42 (dk_at dksX14_init_0 9 rfl rfl)
theorem dX14_init_10 : decode cX14_init 10 = .ok (.aload_n 2, 1) := dk_44 (dk_at dksX14_init_0 10 rfl rfl)
theorem dX14_init_11 : decode cX14_init 11 = .ok (.putfield 13, 3) := dk_181 0 13 (dk_at dksX14_init_0 11 rfl rfl)
theorem dX14_init_14 : decode cX14_init 14 = .ok (.aload_n 0, 1) := dk_42 (dk_at dksX14_init_0 14 rfl rfl)
theorem dX14_init_15 : decode cX14_init 15 = .ok (.aload_n 3, 1) := dk_45 (dk_at dksX14_init_0 15 rfl rfl)
theorem dX14_init_16 : decode cX14_init 16 = .ok (.putfield 17, 3) := dk_181 0 17 (dk_at dksX14_init_0 16 rfl rfl)
theorem dX14_init_19 : decode cX14_init 19 = .ok (.return_, 1) := dk_177 (dk_at dksX14_init_0 19 rfl rfl)
abbrev cX14_by : ByteArray := prog_3_method_2_code
def yX14_by : MethodName := ⟨RX14, "by", "(LApartBench$View;)I"⟩
def dkwX14_by_5 : List UInt8 := [167, 0, 4, 3, 172]
abbrev dktX14_by_5 : List UInt8 := dkwX14_by_5 ++ []
def dkwX14_by_4 : List UInt8 := [153, 0, 11, 29, 153, 0, 7, 4, 167, 0, 4, 3, 172, 28, 154, 0, 7, 29, 153, 0, 7, 4]
abbrev dktX14_by_4 : List UInt8 := dkwX14_by_4 ++ dktX14_by_5
def dkwX14_by_3 : List UInt8 := [28, 29, 162, 0, 7, 4, 167, 0, 4, 3, 172, 28, 29, 160, 0, 7, 4, 167, 0, 4, 3, 172, 28]
abbrev dktX14_by_3 : List UInt8 := dkwX14_by_3 ++ dktX14_by_4
def dkwX14_by_2 : List UInt8 := [28, 29, 96, 172, 28, 29, 100, 172, 28, 29, 104, 172, 29, 154, 0, 7, 3, 167, 0, 6, 28, 29, 108, 172]
abbrev dktX14_by_2 : List UInt8 := dkwX14_by_2 ++ dktX14_by_3
def dkwX14_by_1 : List UInt8 := [170, 0, 0, 0, 0, 170, 0, 0, 0, 38, 0, 0, 0, 61, 0, 0, 0, 156, 0, 0, 0, 170, 0, 0, 0, 170, 0, 0, 0, 170, 0, 0, 0, 118, 0, 0, 0, 110, 0, 0, 0, 170, 0, 0, 0, 114, 0, 0, 0, 170, 0, 0, 0, 122, 0, 0, 0, 170, 0, 0, 0, 170, 0, 0, 0, 170, 0, 0, 0, 170, 0, 0, 0, 170, 0, 0, 0, 170, 0, 0, 0, 170, 0, 0, 0, 170, 0, 0, 0, 170, 0, 0, 0, 170, 0, 0, 0, 170, 0, 0, 0, 170, 0, 0, 0, 134, 0, 0, 0, 145]
abbrev dktX14_by_1 : List UInt8 := dkwX14_by_1 ++ dktX14_by_2
def dkwX14_by_0 : List UInt8 := [42, 180, 0, 13, 43, 182, 0, 20, 61, 42, 180, 0, 17, 43, 182, 0, 20, 62, 42, 180, 0, 7]
abbrev dktX14_by_0 : List UInt8 := dkwX14_by_0 ++ dktX14_by_1
theorem dksX14_by_0 : cX14_by.data.toList.drop 0 = dktX14_by_0 := by decide +kernel
theorem dksX14_by_1 : cX14_by.data.toList.drop 22 = dktX14_by_1 := dk_seg dksX14_by_0 22 rfl rfl
theorem dksX14_by_2 : cX14_by.data.toList.drop 132 = dktX14_by_2 := dk_seg dksX14_by_1 110 rfl rfl
theorem dksX14_by_3 : cX14_by.data.toList.drop 156 = dktX14_by_3 := dk_seg dksX14_by_2 24 rfl rfl
theorem dksX14_by_4 : cX14_by.data.toList.drop 179 = dktX14_by_4 := dk_seg dksX14_by_3 23 rfl rfl
theorem dksX14_by_5 : cX14_by.data.toList.drop 201 = dktX14_by_5 := dk_seg dksX14_by_4 22 rfl rfl
theorem dX14_by_0 : decode cX14_by 0 = .ok (.aload_n 0, 1) := dk_42 (dk_at dksX14_by_0 0 rfl rfl)
theorem dX14_by_1 : decode cX14_by 1 = .ok (.getfield 13, 3) := dk_180 0 13 (dk_at dksX14_by_0 1 rfl rfl)
theorem dX14_by_4 : decode cX14_by 4 = .ok (.aload_n 1, 1) := dk_43 (dk_at dksX14_by_0 4 rfl rfl)
theorem dX14_by_5 : decode cX14_by 5 = .ok (.invokevirtual 20, 3) := dk_182 0 20 (dk_at dksX14_by_0 5 rfl rfl)
theorem dX14_by_8 : decode cX14_by 8 = .ok (.istore_n 2, 1) := dk_61 (dk_at dksX14_by_0 8 rfl rfl)
theorem dX14_by_9 : decode cX14_by 9 = .ok (.aload_n 0, 1) := dk_42 (dk_at dksX14_by_0 9 rfl rfl)
theorem dX14_by_10 : decode cX14_by 10 = .ok (.getfield 17, 3) := dk_180 0 17 (dk_at dksX14_by_0 10 rfl rfl)
theorem dX14_by_13 : decode cX14_by 13 = .ok (.aload_n 1, 1) := dk_43 (dk_at dksX14_by_0 13 rfl rfl)
theorem dX14_by_14 : decode cX14_by 14 = .ok (.invokevirtual 20, 3) := dk_182 0 20 (dk_at dksX14_by_0 14 rfl rfl)
theorem dX14_by_17 : decode cX14_by 17 = .ok (.istore_n 3, 1) := dk_62 (dk_at dksX14_by_0 17 rfl rfl)
theorem dX14_by_18 : decode cX14_by 18 = .ok (.aload_n 0, 1) := dk_42 (dk_at dksX14_by_0 18 rfl rfl)
theorem dX14_by_19 : decode cX14_by 19 = .ok (.getfield 7, 3) := dk_180 0 7 (dk_at dksX14_by_0 19 rfl rfl)
theorem dX14_by_22 : decode cX14_by 22 = .ok (.tableswitch 170 38 61 #[156, 170, 170, 170, 118, 110, 170, 114, 170, 122, 170, 170, 170, 170, 170, 170, 170, 170, 170, 170, 170, 170, 134, 145], 110) := by decide +kernel
theorem dX14_by_132 : decode cX14_by 132 = .ok (.iload_n 2, 1) := dk_28 (dk_at dksX14_by_2 0 rfl rfl)
theorem dX14_by_133 : decode cX14_by 133 = .ok (.iload_n 3, 1) := dk_29 (dk_at dksX14_by_2 1 rfl rfl)
theorem dX14_by_134 : decode cX14_by 134 = .ok (.iadd, 1) := dk_96 (dk_at dksX14_by_2 2 rfl rfl)
theorem dX14_by_135 : decode cX14_by 135 = .ok (.ireturn, 1) := dk_172 (dk_at dksX14_by_2 3 rfl rfl)
theorem dX14_by_136 : decode cX14_by 136 = .ok (.iload_n 2, 1) := dk_28 (dk_at dksX14_by_2 4 rfl rfl)
theorem dX14_by_137 : decode cX14_by 137 = .ok (.iload_n 3, 1) := dk_29 (dk_at dksX14_by_2 5 rfl rfl)
theorem dX14_by_138 : decode cX14_by 138 = .ok (.isub, 1) := dk_100 (dk_at dksX14_by_2 6 rfl rfl)
theorem dX14_by_139 : decode cX14_by 139 = .ok (.ireturn, 1) := dk_172 (dk_at dksX14_by_2 7 rfl rfl)
theorem dX14_by_140 : decode cX14_by 140 = .ok (.iload_n 2, 1) := dk_28 (dk_at dksX14_by_2 8 rfl rfl)
theorem dX14_by_141 : decode cX14_by 141 = .ok (.iload_n 3, 1) := dk_29 (dk_at dksX14_by_2 9 rfl rfl)
theorem dX14_by_142 : decode cX14_by 142 = .ok (.imul, 1) := dk_104 (dk_at dksX14_by_2 10 rfl rfl)
theorem dX14_by_143 : decode cX14_by 143 = .ok (.ireturn, 1) := dk_172 (dk_at dksX14_by_2 11 rfl rfl)
theorem dX14_by_144 : decode cX14_by 144 = .ok (.iload_n 3, 1) := dk_29 (dk_at dksX14_by_2 12 rfl rfl)
theorem dX14_by_145 : decode cX14_by 145 = .ok (.ifCond .ne 7, 3) := dk_154 0 7 (dk_at dksX14_by_2 13 rfl rfl)
theorem dX14_by_148 : decode cX14_by 148 = .ok (.iconst 0, 1) := dk_3 (dk_at dksX14_by_2 16 rfl rfl)
theorem dX14_by_149 : decode cX14_by 149 = .ok (.goto 6, 3) := dk_167 0 6 (dk_at dksX14_by_2 17 rfl rfl)
theorem dX14_by_152 : decode cX14_by 152 = .ok (.iload_n 2, 1) := dk_28 (dk_at dksX14_by_2 20 rfl rfl)
theorem dX14_by_153 : decode cX14_by 153 = .ok (.iload_n 3, 1) := dk_29 (dk_at dksX14_by_2 21 rfl rfl)
theorem dX14_by_154 : decode cX14_by 154 = .ok (.idiv, 1) := dk_108 (dk_at dksX14_by_2 22 rfl rfl)
theorem dX14_by_155 : decode cX14_by 155 = .ok (.ireturn, 1) := dk_172 (dk_at dksX14_by_2 23 rfl rfl)
theorem dX14_by_156 : decode cX14_by 156 = .ok (.iload_n 2, 1) := dk_28 (dk_at dksX14_by_3 0 rfl rfl)
theorem dX14_by_157 : decode cX14_by 157 = .ok (.iload_n 3, 1) := dk_29 (dk_at dksX14_by_3 1 rfl rfl)
theorem dX14_by_158 : decode cX14_by 158 = .ok (.if_icmp .ge 7, 3) := dk_162 0 7 (dk_at dksX14_by_3 2 rfl rfl)
theorem dX14_by_161 : decode cX14_by 161 = .ok (.iconst 1, 1) := dk_4 (dk_at dksX14_by_3 5 rfl rfl)
theorem dX14_by_162 : decode cX14_by 162 = .ok (.goto 4, 3) := dk_167 0 4 (dk_at dksX14_by_3 6 rfl rfl)
theorem dX14_by_165 : decode cX14_by 165 = .ok (.iconst 0, 1) := dk_3 (dk_at dksX14_by_3 9 rfl rfl)
theorem dX14_by_166 : decode cX14_by 166 = .ok (.ireturn, 1) := dk_172 (dk_at dksX14_by_3 10 rfl rfl)
theorem dX14_by_167 : decode cX14_by 167 = .ok (.iload_n 2, 1) := dk_28 (dk_at dksX14_by_3 11 rfl rfl)
theorem dX14_by_168 : decode cX14_by 168 = .ok (.iload_n 3, 1) := dk_29 (dk_at dksX14_by_3 12 rfl rfl)
theorem dX14_by_169 : decode cX14_by 169 = .ok (.if_icmp .ne 7, 3) := dk_160 0 7 (dk_at dksX14_by_3 13 rfl rfl)
theorem dX14_by_172 : decode cX14_by 172 = .ok (.iconst 1, 1) := dk_4 (dk_at dksX14_by_3 16 rfl rfl)
theorem dX14_by_173 : decode cX14_by 173 = .ok (.goto 4, 3) := dk_167 0 4 (dk_at dksX14_by_3 17 rfl rfl)
theorem dX14_by_176 : decode cX14_by 176 = .ok (.iconst 0, 1) := dk_3 (dk_at dksX14_by_3 20 rfl rfl)
theorem dX14_by_177 : decode cX14_by 177 = .ok (.ireturn, 1) := dk_172 (dk_at dksX14_by_3 21 rfl rfl)
theorem dX14_by_178 : decode cX14_by 178 = .ok (.iload_n 2, 1) := dk_28 (dk_at dksX14_by_3 22 rfl rfl)
theorem dX14_by_179 : decode cX14_by 179 = .ok (.ifCond .eq 11, 3) := dk_153 0 11 (dk_at dksX14_by_4 0 rfl rfl)
theorem dX14_by_182 : decode cX14_by 182 = .ok (.iload_n 3, 1) := dk_29 (dk_at dksX14_by_4 3 rfl rfl)
theorem dX14_by_183 : decode cX14_by 183 = .ok (.ifCond .eq 7, 3) := dk_153 0 7 (dk_at dksX14_by_4 4 rfl rfl)
theorem dX14_by_186 : decode cX14_by 186 = .ok (.iconst 1, 1) := dk_4 (dk_at dksX14_by_4 7 rfl rfl)
theorem dX14_by_187 : decode cX14_by 187 = .ok (.goto 4, 3) := dk_167 0 4 (dk_at dksX14_by_4 8 rfl rfl)
theorem dX14_by_190 : decode cX14_by 190 = .ok (.iconst 0, 1) := dk_3 (dk_at dksX14_by_4 11 rfl rfl)
theorem dX14_by_191 : decode cX14_by 191 = .ok (.ireturn, 1) := dk_172 (dk_at dksX14_by_4 12 rfl rfl)
theorem dX14_by_192 : decode cX14_by 192 = .ok (.iload_n 2, 1) := dk_28 (dk_at dksX14_by_4 13 rfl rfl)
theorem dX14_by_193 : decode cX14_by 193 = .ok (.ifCond .ne 7, 3) := dk_154 0 7 (dk_at dksX14_by_4 14 rfl rfl)
theorem dX14_by_196 : decode cX14_by 196 = .ok (.iload_n 3, 1) := dk_29 (dk_at dksX14_by_4 17 rfl rfl)
theorem dX14_by_197 : decode cX14_by 197 = .ok (.ifCond .eq 7, 3) := dk_153 0 7 (dk_at dksX14_by_4 18 rfl rfl)
theorem dX14_by_200 : decode cX14_by 200 = .ok (.iconst 1, 1) := dk_4 (dk_at dksX14_by_4 21 rfl rfl)
theorem dX14_by_201 : decode cX14_by 201 = .ok (.goto 4, 3) := dk_167 0 4 (dk_at dksX14_by_5 0 rfl rfl)
theorem dX14_by_204 : decode cX14_by 204 = .ok (.iconst 0, 1) := dk_3 (dk_at dksX14_by_5 3 rfl rfl)
theorem dX14_by_205 : decode cX14_by 205 = .ok (.ireturn, 1) := dk_172 (dk_at dksX14_by_5 4 rfl rfl)
theorem q141 : (Jvm.Cond.initialized "ApartBench$Both") ∈ lw_all := lw_g (lw_at lw_m1 36 rfl) rfl
theorem q669 : (Jvm.Cond.selects "ApartBench$Both" ({ cls := "java/lang/Object", name := "getClass", desc := "()Ljava/lang/Class;" } : Jvm.MethodName) ({ cls := "java/lang/Object", name := "getClass", desc := "()Ljava/lang/Class;" } : Jvm.MethodName)) ∈ lw_all := lw_g (lw_at lw_m3 84 rfl) rfl
theorem q1164 : (Jvm.Cond.instantiable "ApartBench$Both" (3 : Nat)) ∈ lw_all := lw_g (lw_at lw_m5 99 rfl) rfl
theorem q1166 : (Jvm.Cond.instanceMethod ({ cls := "ApartBench$Both", name := "<init>", desc := "(CLApartBench$Expr;LApartBench$Expr;)V" } : Jvm.MethodName)) ∈ lw_all := lw_g (lw_at lw_m5 101 rfl) rfl
theorem q1167 : (Jvm.Cond.code ({ cls := "ApartBench$Both", name := "<init>", desc := "(CLApartBench$Expr;LApartBench$Expr;)V" } : Jvm.MethodName) prog_3_method_1_code (4 : Nat) (Option.none : Option Jvm.ClassFile.FieldType)) ∈ lw_all := lw_g (lw_at lw_m5 102 rfl) rfl
theorem q1168 : (Jvm.Cond.methodLinkNest "ApartBench$Both" (1 : Nat) ({ cls := "ApartBench$Expr", name := "<init>", desc := "()V" } : Jvm.MethodName) "ApartBench") ∈ lw_tbl := lw_at lw_m5 103 rfl
theorem q1169 : (Jvm.Cond.fieldLink "ApartBench$Both" (7 : Nat) "ApartBench$Both" "act" "C") ∈ lw_all := lw_g (lw_at lw_m5 104 rfl) rfl
theorem q1170 : (Jvm.Cond.fieldLink "ApartBench$Both" (13 : Nat) "ApartBench$Both" "left" "LApartBench$Expr;") ∈ lw_all := lw_g (lw_at lw_m5 105 rfl) rfl
theorem q1171 : (Jvm.Cond.fieldLink "ApartBench$Both" (17 : Nat) "ApartBench$Both" "right" "LApartBench$Expr;") ∈ lw_all := lw_g (lw_at lw_m5 106 rfl) rfl
theorem q1172 : (Jvm.Cond.laysFinal "ApartBench$Both" "ApartBench$Both" "act" "C") ∈ lw_all := lw_g (lw_at lw_m5 107 rfl) rfl
theorem q1173 : (Jvm.Cond.soleField "ApartBench$Both" "act") ∈ lw_all := lw_g (lw_at lw_m5 108 rfl) rfl
theorem q1174 : (Jvm.Cond.laysFinal "ApartBench$Both" "ApartBench$Both" "left" "LApartBench$Expr;") ∈ lw_all := lw_g (lw_at lw_m5 109 rfl) rfl
theorem q1175 : (Jvm.Cond.soleField "ApartBench$Both" "left") ∈ lw_all := lw_g (lw_at lw_m5 110 rfl) rfl
theorem q1176 : (Jvm.Cond.laysFinal "ApartBench$Both" "ApartBench$Both" "right" "LApartBench$Expr;") ∈ lw_all := lw_g (lw_at lw_m5 111 rfl) rfl
theorem q1177 : (Jvm.Cond.soleField "ApartBench$Both" "right") ∈ lw_all := lw_g (lw_at lw_m5 112 rfl) rfl
theorem q1178 : (Jvm.Cond.superclass "ApartBench$Both" "ApartBench$Expr") ∈ lw_all := lw_g (lw_at lw_m5 113 rfl) rfl
theorem q1365 : (Jvm.Cond.selects "ApartBench$Both" ({ cls := "ApartBench$Expr", name := "by", desc := "(LApartBench$View;)I" } : Jvm.MethodName) ({ cls := "ApartBench$Both", name := "by", desc := "(LApartBench$View;)I" } : Jvm.MethodName)) ∈ lw_all := lw_g (lw_at lw_m6 60 rfl) rfl
theorem q1366 : (Jvm.Cond.instanceMethod ({ cls := "ApartBench$Both", name := "by", desc := "(LApartBench$View;)I" } : Jvm.MethodName)) ∈ lw_all := lw_g (lw_at lw_m6 61 rfl) rfl
theorem q1367 : (Jvm.Cond.code ({ cls := "ApartBench$Both", name := "by", desc := "(LApartBench$View;)I" } : Jvm.MethodName) prog_3_method_2_code (4 : Nat) (Option.some Jvm.ClassFile.FieldType.int)) ∈ lw_all := lw_g (lw_at lw_m6 62 rfl) rfl
theorem q1368 : (Jvm.Cond.methodLink "ApartBench$Both" (20 : Nat) ({ cls := "ApartBench$Expr", name := "by", desc := "(LApartBench$View;)I" } : Jvm.MethodName)) ∈ lw_all := lw_g (lw_at lw_m6 63 rfl) rfl
theorem q2364 : (Jvm.Cond.castable "ApartBench$Both" "java/lang/Object") ∈ lw_tbl := lw_at lw_m10 99 rfl
theorem in_X14 : ∀ w ∈ wsX140, w ∈ lw_all := lw_in wsX140 [1172, 1174, 1176] (by decide +kernel) (by decide +kernel)

/-! ApartBench$Not -/
set_option maxRecDepth 100000
def RX15 : String := "ApartBench$Not"
def TX15 : u_T := fun k => match k with
  | _ => ("ApartBench$Not", "part", "LApartBench$Expr;", true)
def tyX15 : Nat → FieldType := fun k => match k with
  | _ => .object "ApartBench$Expr"
abbrev wsX150 : List Cond := u_ws RX15 TX15 1
theorem nmX15 : ∀ a, a < 1 → ∀ b, b < 1 → a ≠ b → (TX15 a).2.1 ≠ (TX15 b).2.1 := by decide +kernel
theorem tyX15_ok : ∀ k, k < 1 → parseFieldDescriptor (TX15 k).2.2.1 = some (tyX15 k) := by decide +kernel
abbrev cX15_init : ByteArray := prog_9_method_1_code
def yX15_init : MethodName := ⟨RX15, "<init>", "(LApartBench$Expr;)V"⟩
def dkwX15_init_0 : List UInt8 := [42, 183, 0, 1, 42, 43, 181, 0, 7, 177]
abbrev dktX15_init_0 : List UInt8 := dkwX15_init_0 ++ []
theorem dksX15_init_0 : cX15_init.data.toList.drop 0 = dktX15_init_0 := by decide +kernel
theorem dX15_init_0 : decode cX15_init 0 = .ok (.aload_n 0, 1) := dk_42 (dk_at dksX15_init_0 0 rfl rfl)
theorem dX15_init_1 : decode cX15_init 1 = .ok (.invokespecial 1, 3) := dk_183 0 1 (dk_at dksX15_init_0 1 rfl rfl)
theorem dX15_init_4 : decode cX15_init 4 = .ok (.aload_n 0, 1) := dk_42 (dk_at dksX15_init_0 4 rfl rfl)
theorem dX15_init_5 : decode cX15_init 5 = .ok (.aload_n 1, 1) := dk_43 (dk_at dksX15_init_0 5 rfl rfl)
theorem dX15_init_6 : decode cX15_init 6 = .ok (.putfield 7, 3) := dk_181 0 7 (dk_at dksX15_init_0 6 rfl rfl)
theorem dX15_init_9 : decode cX15_init 9 = .ok (.return_, 1) := dk_177 (dk_at dksX15_init_0 9 rfl rfl)
abbrev cX15_by : ByteArray := prog_9_method_2_code
def yX15_by : MethodName := ⟨RX15, "by", "(LApartBench$View;)I"⟩
def dkwX15_by_0 : List UInt8 := [42, 180, 0, 7, 43, 182, 0, 13, 154, 0, 7, 4, 167, 0, 4, 3, 172]
abbrev dktX15_by_0 : List UInt8 := dkwX15_by_0 ++ []
theorem dksX15_by_0 : cX15_by.data.toList.drop 0 = dktX15_by_0 := by decide +kernel
theorem dX15_by_0 : decode cX15_by 0 = .ok (.aload_n 0, 1) := dk_42 (dk_at dksX15_by_0 0 rfl rfl)
theorem dX15_by_1 : decode cX15_by 1 = .ok (.getfield 7, 3) := dk_180 0 7 (dk_at dksX15_by_0 1 rfl rfl)
theorem dX15_by_4 : decode cX15_by 4 = .ok (.aload_n 1, 1) := dk_43 (dk_at dksX15_by_0 4 rfl rfl)
theorem dX15_by_5 : decode cX15_by 5 = .ok (.invokevirtual 13, 3) := dk_182 0 13 (dk_at dksX15_by_0 5 rfl rfl)
theorem dX15_by_8 : decode cX15_by 8 = .ok (.ifCond .ne 7, 3) := dk_154 0 7 (dk_at dksX15_by_0 8 rfl rfl)
theorem dX15_by_11 : decode cX15_by 11 = .ok (.iconst 1, 1) := dk_4 (dk_at dksX15_by_0 11 rfl rfl)
theorem dX15_by_12 : decode cX15_by 12 = .ok (.goto 4, 3) := dk_167 0 4 (dk_at dksX15_by_0 12 rfl rfl)
theorem dX15_by_15 : decode cX15_by 15 = .ok (.iconst 0, 1) := dk_3 (dk_at dksX15_by_0 15 rfl rfl)
theorem dX15_by_16 : decode cX15_by 16 = .ok (.ireturn, 1) := dk_172 (dk_at dksX15_by_0 16 rfl rfl)
theorem q142 : (Jvm.Cond.initialized "ApartBench$Not") ∈ lw_all := lw_g (lw_at lw_m1 37 rfl) rfl
theorem q674 : (Jvm.Cond.selects "ApartBench$Not" ({ cls := "java/lang/Object", name := "getClass", desc := "()Ljava/lang/Class;" } : Jvm.MethodName) ({ cls := "java/lang/Object", name := "getClass", desc := "()Ljava/lang/Class;" } : Jvm.MethodName)) ∈ lw_all := lw_g (lw_at lw_m3 89 rfl) rfl
theorem q1184 : (Jvm.Cond.instantiable "ApartBench$Not" (1 : Nat)) ∈ lw_all := lw_g (lw_at lw_m5 119 rfl) rfl
theorem q1186 : (Jvm.Cond.instanceMethod ({ cls := "ApartBench$Not", name := "<init>", desc := "(LApartBench$Expr;)V" } : Jvm.MethodName)) ∈ lw_all := lw_g (lw_at lw_m5 121 rfl) rfl
theorem q1187 : (Jvm.Cond.code ({ cls := "ApartBench$Not", name := "<init>", desc := "(LApartBench$Expr;)V" } : Jvm.MethodName) prog_9_method_1_code (2 : Nat) (Option.none : Option Jvm.ClassFile.FieldType)) ∈ lw_all := lw_g (lw_at lw_m5 122 rfl) rfl
theorem q1188 : (Jvm.Cond.methodLinkNest "ApartBench$Not" (1 : Nat) ({ cls := "ApartBench$Expr", name := "<init>", desc := "()V" } : Jvm.MethodName) "ApartBench") ∈ lw_tbl := lw_at lw_m5 123 rfl
theorem q1189 : (Jvm.Cond.fieldLink "ApartBench$Not" (7 : Nat) "ApartBench$Not" "part" "LApartBench$Expr;") ∈ lw_all := lw_g (lw_at lw_m5 124 rfl) rfl
theorem q1190 : (Jvm.Cond.laysFinal "ApartBench$Not" "ApartBench$Not" "part" "LApartBench$Expr;") ∈ lw_all := lw_g (lw_at lw_m5 125 rfl) rfl
theorem q1191 : (Jvm.Cond.soleField "ApartBench$Not" "part") ∈ lw_all := lw_g (lw_at lw_m5 126 rfl) rfl
theorem q1192 : (Jvm.Cond.superclass "ApartBench$Not" "ApartBench$Expr") ∈ lw_all := lw_g (lw_at lw_m5 127 rfl) rfl
theorem q1369 : (Jvm.Cond.instanceMethod ({ cls := "ApartBench$Not", name := "by", desc := "(LApartBench$View;)I" } : Jvm.MethodName)) ∈ lw_all := lw_g (lw_at lw_m6 64 rfl) rfl
theorem q1370 : (Jvm.Cond.code ({ cls := "ApartBench$Not", name := "by", desc := "(LApartBench$View;)I" } : Jvm.MethodName) prog_9_method_2_code (2 : Nat) (Option.some Jvm.ClassFile.FieldType.int)) ∈ lw_all := lw_g (lw_at lw_m6 65 rfl) rfl
theorem q1371 : (Jvm.Cond.methodLink "ApartBench$Not" (13 : Nat) ({ cls := "ApartBench$Expr", name := "by", desc := "(LApartBench$View;)I" } : Jvm.MethodName)) ∈ lw_all := lw_g (lw_at lw_m6 66 rfl) rfl
theorem q1377 : (Jvm.Cond.selects "ApartBench$Not" ({ cls := "ApartBench$Expr", name := "by", desc := "(LApartBench$View;)I" } : Jvm.MethodName) ({ cls := "ApartBench$Not", name := "by", desc := "(LApartBench$View;)I" } : Jvm.MethodName)) ∈ lw_all := lw_g (lw_at lw_m6 72 rfl) rfl
theorem q2365 : (Jvm.Cond.castable "ApartBench$Not" "java/lang/Object") ∈ lw_tbl := lw_at lw_m10 100 rfl
theorem in_X15 : ∀ w ∈ wsX150, w ∈ lw_all := lw_in wsX150 [1190] (by decide +kernel) (by decide +kernel)

/-! ApartBench$Judge -/
set_option maxRecDepth 100000
def RX16 : String := "ApartBench$Judge"
def TX16 : u_T := fun k => match k with
  | 0 => ("ApartBench$Judge", "day", "I", true)
  | 1 => ("ApartBench$Judge", "harsh", "I", true)
  | _ => ("ApartBench$Judge", "route", "[I", true)
def tyX16 : Nat → FieldType := fun k => match k with
  | 0 => .int
  | 1 => .int
  | _ => .array .int
abbrev wsX160 : List Cond := u_ws RX16 TX16 3
theorem nmX16 : ∀ a, a < 3 → ∀ b, b < 3 → a ≠ b → (TX16 a).2.1 ≠ (TX16 b).2.1 := by decide +kernel
theorem tyX16_ok : ∀ k, k < 3 → parseFieldDescriptor (TX16 k).2.2.1 = some (tyX16 k) := by decide +kernel
abbrev cX16_init : ByteArray := prog_7_method_1_code
def yX16_init : MethodName := ⟨RX16, "<init>", "(II[I)V"⟩
def dkwX16_init_0 : List UInt8 := [42, 183, 0, 1, 42, 27, 181, 0, 7, 42, 28, 181, 0, 13, 42, 45, 181, 0, 16, 177]
abbrev dktX16_init_0 : List UInt8 := dkwX16_init_0 ++ []
theorem dksX16_init_0 : cX16_init.data.toList.drop 0 = dktX16_init_0 := by decide +kernel
theorem dX16_init_0 : decode cX16_init 0 = .ok (.aload_n 0, 1) := dk_42 (dk_at dksX16_init_0 0 rfl rfl)
theorem dX16_init_1 : decode cX16_init 1 = .ok (.invokespecial 1, 3) := dk_183 0 1 (dk_at dksX16_init_0 1 rfl rfl)
theorem dX16_init_4 : decode cX16_init 4 = .ok (.aload_n 0, 1) := dk_42 (dk_at dksX16_init_0 4 rfl rfl)
theorem dX16_init_5 : decode cX16_init 5 = .ok (.iload_n 1, 1) := dk_27 (dk_at dksX16_init_0 5 rfl rfl)
theorem dX16_init_6 : decode cX16_init 6 = .ok (.putfield 7, 3) := dk_181 0 7 (dk_at dksX16_init_0 6 rfl rfl)
theorem dX16_init_9 : decode cX16_init 9 = .ok (.aload_n 0, 1) := dk_42 (dk_at dksX16_init_0 9 rfl rfl)
theorem dX16_init_10 : decode cX16_init 10 = .ok (.iload_n 2, 1) := dk_28 (dk_at dksX16_init_0 10 rfl rfl)
theorem dX16_init_11 : decode cX16_init 11 = .ok (.putfield 13, 3) := dk_181 0 13 (dk_at dksX16_init_0 11 rfl rfl)
theorem dX16_init_14 : decode cX16_init 14 = .ok (.aload_n 0, 1) := dk_42 (dk_at dksX16_init_0 14 rfl rfl)
theorem dX16_init_15 : decode cX16_init 15 = .ok (.aload_n 3, 1) := dk_45 (dk_at dksX16_init_0 15 rfl rfl)
theorem dX16_init_16 : decode cX16_init 16 = .ok (.putfield 16, 3) := dk_181 0 16 (dk_at dksX16_init_0 16 rfl rfl)
theorem dX16_init_19 : decode cX16_init 19 = .ok (.return_, 1) := dk_177 (dk_at dksX16_init_0 19 rfl rfl)
abbrev cX16_towns : ByteArray := prog_7_method_6_code
def yX16_towns : MethodName := ⟨RX16, "towns", "()I"⟩
def dkwX16_towns_0 : List UInt8 := [42, 180, 0, 16, 190, 172]
abbrev dktX16_towns_0 : List UInt8 := dkwX16_towns_0 ++ []
theorem dksX16_towns_0 : cX16_towns.data.toList.drop 0 = dktX16_towns_0 := by decide +kernel
theorem dX16_towns_0 : decode cX16_towns 0 = .ok (.aload_n 0, 1) := dk_42 (dk_at dksX16_towns_0 0 rfl rfl)
theorem dX16_towns_1 : decode cX16_towns 1 = .ok (.getfield 16, 3) := dk_180 0 16 (dk_at dksX16_towns_0 1 rfl rfl)
theorem dX16_towns_4 : decode cX16_towns 4 = .ok (.arraylength, 1) := dk_190 (dk_at dksX16_towns_0 4 rfl rfl)
theorem dX16_towns_5 : decode cX16_towns 5 = .ok (.ireturn, 1) := dk_172 (dk_at dksX16_towns_0 5 rfl rfl)
abbrev cX16_town : ByteArray := prog_7_method_5_code
def yX16_town : MethodName := ⟨RX16, "town", "(IZ)I"⟩
def dkwX16_town_0 : List UInt8 := [42, 180, 0, 16, 28, 153, 0, 15, 42, 180, 0, 16, 190, 4, 100, 27, 100, 167, 0, 4, 27, 46, 172]
abbrev dktX16_town_0 : List UInt8 := dkwX16_town_0 ++ []
theorem dksX16_town_0 : cX16_town.data.toList.drop 0 = dktX16_town_0 := by decide +kernel
theorem dX16_town_0 : decode cX16_town 0 = .ok (.aload_n 0, 1) := dk_42 (dk_at dksX16_town_0 0 rfl rfl)
theorem dX16_town_1 : decode cX16_town 1 = .ok (.getfield 16, 3) := dk_180 0 16 (dk_at dksX16_town_0 1 rfl rfl)
theorem dX16_town_4 : decode cX16_town 4 = .ok (.iload_n 2, 1) := dk_28 (dk_at dksX16_town_0 4 rfl rfl)
theorem dX16_town_5 : decode cX16_town 5 = .ok (.ifCond .eq 15, 3) := dk_153 0 15 (dk_at dksX16_town_0 5 rfl rfl)
theorem dX16_town_8 : decode cX16_town 8 = .ok (.aload_n 0, 1) := dk_42 (dk_at dksX16_town_0 8 rfl rfl)
theorem dX16_town_9 : decode cX16_town 9 = .ok (.getfield 16, 3) := dk_180 0 16 (dk_at dksX16_town_0 9 rfl rfl)
theorem dX16_town_12 : decode cX16_town 12 = .ok (.arraylength, 1) := dk_190 (dk_at dksX16_town_0 12 rfl rfl)
theorem dX16_town_13 : decode cX16_town 13 = .ok (.iconst 1, 1) := dk_4 (dk_at dksX16_town_0 13 rfl rfl)
theorem dX16_town_14 : decode cX16_town 14 = .ok (.isub, 1) := dk_100 (dk_at dksX16_town_0 14 rfl rfl)
theorem dX16_town_15 : decode cX16_town 15 = .ok (.iload_n 1, 1) := dk_27 (dk_at dksX16_town_0 15 rfl rfl)
theorem dX16_town_16 : decode cX16_town 16 = .ok (.isub, 1) := dk_100 (dk_at dksX16_town_0 16 rfl rfl)
theorem dX16_town_17 : decode cX16_town 17 = .ok (.goto 4, 3) := dk_167 0 4 (dk_at dksX16_town_0 17 rfl rfl)
theorem dX16_town_20 : decode cX16_town 20 = .ok (.iload_n 1, 1) := dk_27 (dk_at dksX16_town_0 20 rfl rfl)
theorem dX16_town_21 : decode cX16_town 21 = .ok (.iaload, 1) := dk_46 (dk_at dksX16_town_0 21 rfl rfl)
theorem dX16_town_22 : decode cX16_town 22 = .ok (.ireturn, 1) := dk_172 (dk_at dksX16_town_0 22 rfl rfl)
abbrev cX16_says : ByteArray := prog_7_method_3_code
def yX16_says : MethodName := ⟨RX16, "says", "(Z)Z"⟩
theorem dX16_says_0 : decode cX16_says 0 = .ok (.iload_n 1, 1) := by decide +kernel
theorem dX16_says_1 : decode cX16_says 1 = .ok (.ireturn, 1) := by decide +kernel
abbrev cX16_hears : ByteArray := prog_7_method_4_code
def yX16_hears : MethodName := ⟨RX16, "hears", "()Z"⟩
theorem dX16_hears_0 : decode cX16_hears 0 = .ok (.iconst 1, 1) := by decide +kernel
theorem dX16_hears_1 : decode cX16_hears 1 = .ok (.ireturn, 1) := by decide +kernel
abbrev cX16_kind : ByteArray := prog_7_method_2_code
def yX16_kind : MethodName := ⟨RX16, "kind", "()I"⟩
theorem dX16_kind_0 : decode cX16_kind 0 = .ok (.iconst 0, 1) := by decide +kernel
theorem dX16_kind_1 : decode cX16_kind 1 = .ok (.ireturn, 1) := by decide +kernel
theorem q143 : (Jvm.Cond.initialized "ApartBench$Judge") ∈ lw_all := lw_g (lw_at lw_m1 38 rfl) rfl
theorem q672 : (Jvm.Cond.selects "ApartBench$Judge" ({ cls := "java/lang/Object", name := "getClass", desc := "()Ljava/lang/Class;" } : Jvm.MethodName) ({ cls := "java/lang/Object", name := "getClass", desc := "()Ljava/lang/Class;" } : Jvm.MethodName)) ∈ lw_all := lw_g (lw_at lw_m3 87 rfl) rfl
theorem q1216 : (Jvm.Cond.instanceMethod ({ cls := "ApartBench$Judge", name := "<init>", desc := "(II[I)V" } : Jvm.MethodName)) ∈ lw_all := lw_g (lw_at lw_m5 151 rfl) rfl
theorem q1217 : (Jvm.Cond.code ({ cls := "ApartBench$Judge", name := "<init>", desc := "(II[I)V" } : Jvm.MethodName) prog_7_method_1_code (4 : Nat) (Option.none : Option Jvm.ClassFile.FieldType)) ∈ lw_all := lw_g (lw_at lw_m5 152 rfl) rfl
theorem q1218 : (Jvm.Cond.methodLink "ApartBench$Judge" (1 : Nat) ({ cls := "java/lang/Object", name := "<init>", desc := "()V" } : Jvm.MethodName)) ∈ lw_all := lw_g (lw_at lw_m5 153 rfl) rfl
theorem q1219 : (Jvm.Cond.fieldLink "ApartBench$Judge" (7 : Nat) "ApartBench$Judge" "day" "I") ∈ lw_all := lw_g (lw_at lw_m5 154 rfl) rfl
theorem q1221 : (Jvm.Cond.fieldLink "ApartBench$Judge" (13 : Nat) "ApartBench$Judge" "harsh" "I") ∈ lw_all := lw_g (lw_at lw_m5 156 rfl) rfl
theorem q1224 : (Jvm.Cond.fieldLink "ApartBench$Judge" (16 : Nat) "ApartBench$Judge" "route" "[I") ∈ lw_all := lw_g (lw_at lw_m5 159 rfl) rfl
theorem q1226 : (Jvm.Cond.soleField "ApartBench$Judge" "day") ∈ lw_all := lw_g (lw_at lw_m5 161 rfl) rfl
theorem q1228 : (Jvm.Cond.soleField "ApartBench$Judge" "harsh") ∈ lw_all := lw_g (lw_at lw_m5 163 rfl) rfl
theorem q1230 : (Jvm.Cond.soleField "ApartBench$Judge" "route") ∈ lw_all := lw_g (lw_at lw_m5 165 rfl) rfl
theorem q1243 : (Jvm.Cond.instantiable "ApartBench$Judge" (3 : Nat)) ∈ lw_all := lw_g (lw_at lw_m5 178 rfl) rfl
theorem q1245 : (Jvm.Cond.laysFinal "ApartBench$Judge" "ApartBench$Judge" "day" "I") ∈ lw_all := lw_g (lw_at lw_m5 180 rfl) rfl
theorem q1246 : (Jvm.Cond.laysFinal "ApartBench$Judge" "ApartBench$Judge" "harsh" "I") ∈ lw_all := lw_g (lw_at lw_m5 181 rfl) rfl
theorem q1247 : (Jvm.Cond.laysFinal "ApartBench$Judge" "ApartBench$Judge" "route" "[I") ∈ lw_all := lw_g (lw_at lw_m5 182 rfl) rfl
theorem q1248 : (Jvm.Cond.superclass "ApartBench$Judge" "java/lang/Object") ∈ lw_all := lw_g (lw_at lw_m5 183 rfl) rfl
theorem q1309 : (Jvm.Cond.instanceMethod ({ cls := "ApartBench$Judge", name := "towns", desc := "()I" } : Jvm.MethodName)) ∈ lw_all := lw_g (lw_at lw_m6 4 rfl) rfl
theorem q1310 : (Jvm.Cond.selects "ApartBench$Judge" ({ cls := "ApartBench$Judge", name := "towns", desc := "()I" } : Jvm.MethodName) ({ cls := "ApartBench$Judge", name := "towns", desc := "()I" } : Jvm.MethodName)) ∈ lw_all := lw_g (lw_at lw_m6 5 rfl) rfl
theorem q1311 : (Jvm.Cond.sameMethod "ApartBench$Judge" "ApartBench$Judge" "towns" "()I") ∈ lw_all := lw_g (lw_at lw_m6 6 rfl) rfl
theorem q1314 : (Jvm.Cond.code ({ cls := "ApartBench$Judge", name := "towns", desc := "()I" } : Jvm.MethodName) prog_7_method_6_code (1 : Nat) (Option.some Jvm.ClassFile.FieldType.int)) ∈ lw_all := lw_g (lw_at lw_m6 9 rfl) rfl
theorem q1316 : (Jvm.Cond.instanceMethod ({ cls := "ApartBench$Judge", name := "town", desc := "(IZ)I" } : Jvm.MethodName)) ∈ lw_all := lw_g (lw_at lw_m6 11 rfl) rfl
theorem q1317 : (Jvm.Cond.selects "ApartBench$Judge" ({ cls := "ApartBench$Judge", name := "town", desc := "(IZ)I" } : Jvm.MethodName) ({ cls := "ApartBench$Judge", name := "town", desc := "(IZ)I" } : Jvm.MethodName)) ∈ lw_all := lw_g (lw_at lw_m6 12 rfl) rfl
theorem q1318 : (Jvm.Cond.sameMethod "ApartBench$Judge" "ApartBench$Judge" "town" "(IZ)I") ∈ lw_all := lw_g (lw_at lw_m6 13 rfl) rfl
theorem q1321 : (Jvm.Cond.code ({ cls := "ApartBench$Judge", name := "town", desc := "(IZ)I" } : Jvm.MethodName) prog_7_method_5_code (3 : Nat) (Option.some Jvm.ClassFile.FieldType.int)) ∈ lw_all := lw_g (lw_at lw_m6 16 rfl) rfl
theorem q1381 : (Jvm.Cond.instanceMethod ({ cls := "ApartBench$Judge", name := "says", desc := "(Z)Z" } : Jvm.MethodName)) ∈ lw_all := lw_g (lw_at lw_m6 76 rfl) rfl
theorem q1382 : (Jvm.Cond.selects "ApartBench$Judge" ({ cls := "ApartBench$Judge", name := "says", desc := "(Z)Z" } : Jvm.MethodName) ({ cls := "ApartBench$Judge", name := "says", desc := "(Z)Z" } : Jvm.MethodName)) ∈ lw_all := lw_g (lw_at lw_m6 77 rfl) rfl
theorem q1383 : (Jvm.Cond.sameMethod "ApartBench$Judge" "ApartBench$Judge" "says" "(Z)Z") ∈ lw_all := lw_g (lw_at lw_m6 78 rfl) rfl
theorem q1389 : (Jvm.Cond.code ({ cls := "ApartBench$Judge", name := "says", desc := "(Z)Z" } : Jvm.MethodName) prog_7_method_3_code (2 : Nat) (Option.some Jvm.ClassFile.FieldType.boolean)) ∈ lw_all := lw_g (lw_at lw_m6 84 rfl) rfl
theorem q1411 : (Jvm.Cond.instanceMethod ({ cls := "ApartBench$Judge", name := "hears", desc := "()Z" } : Jvm.MethodName)) ∈ lw_all := lw_g (lw_at lw_m6 106 rfl) rfl
theorem q1412 : (Jvm.Cond.selects "ApartBench$Judge" ({ cls := "ApartBench$Judge", name := "hears", desc := "()Z" } : Jvm.MethodName) ({ cls := "ApartBench$Judge", name := "hears", desc := "()Z" } : Jvm.MethodName)) ∈ lw_all := lw_g (lw_at lw_m6 107 rfl) rfl
theorem q1413 : (Jvm.Cond.sameMethod "ApartBench$Judge" "ApartBench$Judge" "hears" "()Z") ∈ lw_all := lw_g (lw_at lw_m6 108 rfl) rfl
theorem q1418 : (Jvm.Cond.code ({ cls := "ApartBench$Judge", name := "hears", desc := "()Z" } : Jvm.MethodName) prog_7_method_4_code (1 : Nat) (Option.some Jvm.ClassFile.FieldType.boolean)) ∈ lw_all := lw_g (lw_at lw_m6 113 rfl) rfl
theorem q1467 : (Jvm.Cond.instanceMethod ({ cls := "ApartBench$Judge", name := "kind", desc := "()I" } : Jvm.MethodName)) ∈ lw_all := lw_g (lw_at lw_m6 162 rfl) rfl
theorem q1468 : (Jvm.Cond.selects "ApartBench$Judge" ({ cls := "ApartBench$Judge", name := "kind", desc := "()I" } : Jvm.MethodName) ({ cls := "ApartBench$Judge", name := "kind", desc := "()I" } : Jvm.MethodName)) ∈ lw_all := lw_g (lw_at lw_m6 163 rfl) rfl
theorem q1469 : (Jvm.Cond.sameMethod "ApartBench$Judge" "ApartBench$Judge" "kind" "()I") ∈ lw_all := lw_g (lw_at lw_m6 164 rfl) rfl
theorem q1474 : (Jvm.Cond.code ({ cls := "ApartBench$Judge", name := "kind", desc := "()I" } : Jvm.MethodName) prog_7_method_2_code (1 : Nat) (Option.some Jvm.ClassFile.FieldType.int)) ∈ lw_all := lw_g (lw_at lw_m6 169 rfl) rfl
theorem q2368 : (Jvm.Cond.castable "ApartBench$Judge" "java/lang/Object") ∈ lw_tbl := lw_at lw_m10 103 rfl
theorem in_X16 : ∀ w ∈ wsX160, w ∈ lw_all := lw_in wsX160 [1245, 1246, 1247] (by decide +kernel) (by decide +kernel)

/-! ApartBench$Deaf -/
set_option maxRecDepth 100000
def RX17 : String := "ApartBench$Deaf"
def TX17 : u_T := fun k => match k with
  | 0 => ("ApartBench$Judge", "day", "I", true)
  | 1 => ("ApartBench$Judge", "harsh", "I", true)
  | _ => ("ApartBench$Judge", "route", "[I", true)
def tyX17 : Nat → FieldType := fun k => match k with
  | 0 => .int
  | 1 => .int
  | _ => .array .int
abbrev wsX170 : List Cond := u_ws RX17 TX17 3
theorem nmX17 : ∀ a, a < 3 → ∀ b, b < 3 → a ≠ b → (TX17 a).2.1 ≠ (TX17 b).2.1 := by decide +kernel
theorem tyX17_ok : ∀ k, k < 3 → parseFieldDescriptor (TX17 k).2.2.1 = some (tyX17 k) := by decide +kernel
abbrev cX17_init : ByteArray := prog_4_method_1_code
def yX17_init : MethodName := ⟨RX17, "<init>", "(II[I)V"⟩
def dkwX17_init_0 : List UInt8 := [42, 27, 28, 45, 183, 0, 1, 177]
abbrev dktX17_init_0 : List UInt8 := dkwX17_init_0 ++ []
theorem dksX17_init_0 : cX17_init.data.toList.drop 0 = dktX17_init_0 := by decide +kernel
theorem dX17_init_0 : decode cX17_init 0 = .ok (.aload_n 0, 1) := dk_42 (dk_at dksX17_init_0 0 rfl rfl)
theorem dX17_init_1 : decode cX17_init 1 = .ok (.iload_n 1, 1) := dk_27 (dk_at dksX17_init_0 1 rfl rfl)
theorem dX17_init_2 : decode cX17_init 2 = .ok (.iload_n 2, 1) := dk_28 (dk_at dksX17_init_0 2 rfl rfl)
theorem dX17_init_3 : decode cX17_init 3 = .ok (.aload_n 3, 1) := dk_45 (dk_at dksX17_init_0 3 rfl rfl)
theorem dX17_init_4 : decode cX17_init 4 = .ok (.invokespecial 1, 3) := dk_183 0 1 (dk_at dksX17_init_0 4 rfl rfl)
theorem dX17_init_7 : decode cX17_init 7 = .ok (.return_, 1) := dk_177 (dk_at dksX17_init_0 7 rfl rfl)
abbrev cX17_hears : ByteArray := prog_4_method_3_code
def yX17_hears : MethodName := ⟨RX17, "hears", "()Z"⟩
def dkwX17_hears_0 : List UInt8 := [42, 183, 0, 11, 154, 0, 7, 4, 167, 0, 4, 3, 172]
abbrev dktX17_hears_0 : List UInt8 := dkwX17_hears_0 ++ []
theorem dksX17_hears_0 : cX17_hears.data.toList.drop 0 = dktX17_hears_0 := by decide +kernel
theorem dX17_hears_0 : decode cX17_hears 0 = .ok (.aload_n 0, 1) := dk_42 (dk_at dksX17_hears_0 0 rfl rfl)
theorem dX17_hears_1 : decode cX17_hears 1 = .ok (.invokespecial 11, 3) := dk_183 0 11 (dk_at dksX17_hears_0 1 rfl rfl)
theorem dX17_hears_4 : decode cX17_hears 4 = .ok (.ifCond .ne 7, 3) := dk_154 0 7 (dk_at dksX17_hears_0 4 rfl rfl)
theorem dX17_hears_7 : decode cX17_hears 7 = .ok (.iconst 1, 1) := dk_4 (dk_at dksX17_hears_0 7 rfl rfl)
theorem dX17_hears_8 : decode cX17_hears 8 = .ok (.goto 4, 3) := dk_167 0 4 (dk_at dksX17_hears_0 8 rfl rfl)
theorem dX17_hears_11 : decode cX17_hears 11 = .ok (.iconst 0, 1) := dk_3 (dk_at dksX17_hears_0 11 rfl rfl)
theorem dX17_hears_12 : decode cX17_hears 12 = .ok (.ireturn, 1) := dk_172 (dk_at dksX17_hears_0 12 rfl rfl)
abbrev cX17_kind : ByteArray := prog_4_method_2_code
def yX17_kind : MethodName := ⟨RX17, "kind", "()I"⟩
def dkwX17_kind_0 : List UInt8 := [42, 183, 0, 7, 4, 96, 172]
abbrev dktX17_kind_0 : List UInt8 := dkwX17_kind_0 ++ []
theorem dksX17_kind_0 : cX17_kind.data.toList.drop 0 = dktX17_kind_0 := by decide +kernel
theorem dX17_kind_0 : decode cX17_kind 0 = .ok (.aload_n 0, 1) := dk_42 (dk_at dksX17_kind_0 0 rfl rfl)
theorem dX17_kind_1 : decode cX17_kind 1 = .ok (.invokespecial 7, 3) := dk_183 0 7 (dk_at dksX17_kind_0 1 rfl rfl)
theorem dX17_kind_4 : decode cX17_kind 4 = .ok (.iconst 1, 1) := dk_4 (dk_at dksX17_kind_0 4 rfl rfl)
theorem dX17_kind_5 : decode cX17_kind 5 = .ok (.iadd, 1) := dk_96 (dk_at dksX17_kind_0 5 rfl rfl)
theorem dX17_kind_6 : decode cX17_kind 6 = .ok (.ireturn, 1) := dk_172 (dk_at dksX17_kind_0 6 rfl rfl)
theorem q144 : (Jvm.Cond.initialized "ApartBench$Deaf") ∈ lw_all := lw_g (lw_at lw_m1 39 rfl) rfl
theorem q670 : (Jvm.Cond.selects "ApartBench$Deaf" ({ cls := "java/lang/Object", name := "getClass", desc := "()Ljava/lang/Class;" } : Jvm.MethodName) ({ cls := "java/lang/Object", name := "getClass", desc := "()Ljava/lang/Class;" } : Jvm.MethodName)) ∈ lw_all := lw_g (lw_at lw_m3 85 rfl) rfl
theorem q1211 : (Jvm.Cond.instantiable "ApartBench$Deaf" (3 : Nat)) ∈ lw_all := lw_g (lw_at lw_m5 146 rfl) rfl
theorem q1213 : (Jvm.Cond.instanceMethod ({ cls := "ApartBench$Deaf", name := "<init>", desc := "(II[I)V" } : Jvm.MethodName)) ∈ lw_all := lw_g (lw_at lw_m5 148 rfl) rfl
theorem q1214 : (Jvm.Cond.code ({ cls := "ApartBench$Deaf", name := "<init>", desc := "(II[I)V" } : Jvm.MethodName) prog_4_method_1_code (4 : Nat) (Option.none : Option Jvm.ClassFile.FieldType)) ∈ lw_all := lw_g (lw_at lw_m5 149 rfl) rfl
theorem q1215 : (Jvm.Cond.methodLink "ApartBench$Deaf" (1 : Nat) ({ cls := "ApartBench$Judge", name := "<init>", desc := "(II[I)V" } : Jvm.MethodName)) ∈ lw_all := lw_g (lw_at lw_m5 150 rfl) rfl
theorem q1225 : (Jvm.Cond.laysFinal "ApartBench$Deaf" "ApartBench$Judge" "day" "I") ∈ lw_all := lw_g (lw_at lw_m5 160 rfl) rfl
theorem q1227 : (Jvm.Cond.laysFinal "ApartBench$Deaf" "ApartBench$Judge" "harsh" "I") ∈ lw_all := lw_g (lw_at lw_m5 162 rfl) rfl
theorem q1229 : (Jvm.Cond.laysFinal "ApartBench$Deaf" "ApartBench$Judge" "route" "[I") ∈ lw_all := lw_g (lw_at lw_m5 164 rfl) rfl
theorem q1231 : (Jvm.Cond.superclass "ApartBench$Deaf" "ApartBench$Judge") ∈ lw_all := lw_g (lw_at lw_m5 166 rfl) rfl
theorem q1312 : (Jvm.Cond.selects "ApartBench$Deaf" ({ cls := "ApartBench$Judge", name := "towns", desc := "()I" } : Jvm.MethodName) ({ cls := "ApartBench$Judge", name := "towns", desc := "()I" } : Jvm.MethodName)) ∈ lw_all := lw_g (lw_at lw_m6 7 rfl) rfl
theorem q1319 : (Jvm.Cond.selects "ApartBench$Deaf" ({ cls := "ApartBench$Judge", name := "town", desc := "(IZ)I" } : Jvm.MethodName) ({ cls := "ApartBench$Judge", name := "town", desc := "(IZ)I" } : Jvm.MethodName)) ∈ lw_all := lw_g (lw_at lw_m6 14 rfl) rfl
theorem q1384 : (Jvm.Cond.selects "ApartBench$Deaf" ({ cls := "ApartBench$Judge", name := "says", desc := "(Z)Z" } : Jvm.MethodName) ({ cls := "ApartBench$Judge", name := "says", desc := "(Z)Z" } : Jvm.MethodName)) ∈ lw_all := lw_g (lw_at lw_m6 79 rfl) rfl
theorem q1414 : (Jvm.Cond.selects "ApartBench$Deaf" ({ cls := "ApartBench$Judge", name := "hears", desc := "()Z" } : Jvm.MethodName) ({ cls := "ApartBench$Deaf", name := "hears", desc := "()Z" } : Jvm.MethodName)) ∈ lw_all := lw_g (lw_at lw_m6 109 rfl) rfl
theorem q1415 : (Jvm.Cond.instanceMethod ({ cls := "ApartBench$Deaf", name := "hears", desc := "()Z" } : Jvm.MethodName)) ∈ lw_all := lw_g (lw_at lw_m6 110 rfl) rfl
theorem q1416 : (Jvm.Cond.code ({ cls := "ApartBench$Deaf", name := "hears", desc := "()Z" } : Jvm.MethodName) prog_4_method_3_code (1 : Nat) (Option.some Jvm.ClassFile.FieldType.boolean)) ∈ lw_all := lw_g (lw_at lw_m6 111 rfl) rfl
theorem q1417 : (Jvm.Cond.methodLink "ApartBench$Deaf" (11 : Nat) ({ cls := "ApartBench$Judge", name := "hears", desc := "()Z" } : Jvm.MethodName)) ∈ lw_all := lw_g (lw_at lw_m6 112 rfl) rfl
theorem q1470 : (Jvm.Cond.selects "ApartBench$Deaf" ({ cls := "ApartBench$Judge", name := "kind", desc := "()I" } : Jvm.MethodName) ({ cls := "ApartBench$Deaf", name := "kind", desc := "()I" } : Jvm.MethodName)) ∈ lw_all := lw_g (lw_at lw_m6 165 rfl) rfl
theorem q1471 : (Jvm.Cond.instanceMethod ({ cls := "ApartBench$Deaf", name := "kind", desc := "()I" } : Jvm.MethodName)) ∈ lw_all := lw_g (lw_at lw_m6 166 rfl) rfl
theorem q1472 : (Jvm.Cond.code ({ cls := "ApartBench$Deaf", name := "kind", desc := "()I" } : Jvm.MethodName) prog_4_method_2_code (1 : Nat) (Option.some Jvm.ClassFile.FieldType.int)) ∈ lw_all := lw_g (lw_at lw_m6 167 rfl) rfl
theorem q1473 : (Jvm.Cond.methodLink "ApartBench$Deaf" (7 : Nat) ({ cls := "ApartBench$Judge", name := "kind", desc := "()I" } : Jvm.MethodName)) ∈ lw_all := lw_g (lw_at lw_m6 168 rfl) rfl
theorem q2345 : (Jvm.Cond.castable "ApartBench$Deaf" "ApartBench$Judge") ∈ lw_tbl := lw_at lw_m10 80 rfl
theorem q2366 : (Jvm.Cond.castable "ApartBench$Deaf" "java/lang/Object") ∈ lw_tbl := lw_at lw_m10 101 rfl
theorem in_X17 : ∀ w ∈ wsX170, w ∈ lw_all := lw_in wsX170 [1225, 1227, 1229] (by decide +kernel) (by decide +kernel)

/-! ApartBench$Wise -/
set_option maxRecDepth 100000
def RX18 : String := "ApartBench$Wise"
def TX18 : u_T := fun k => match k with
  | 0 => ("ApartBench$Judge", "day", "I", true)
  | 1 => ("ApartBench$Judge", "harsh", "I", true)
  | _ => ("ApartBench$Judge", "route", "[I", true)
def tyX18 : Nat → FieldType := fun k => match k with
  | 0 => .int
  | 1 => .int
  | _ => .array .int
abbrev wsX180 : List Cond := u_ws RX18 TX18 3
theorem nmX18 : ∀ a, a < 3 → ∀ b, b < 3 → a ≠ b → (TX18 a).2.1 ≠ (TX18 b).2.1 := by decide +kernel
theorem tyX18_ok : ∀ k, k < 3 → parseFieldDescriptor (TX18 k).2.2.1 = some (tyX18 k) := by decide +kernel
abbrev cX18_init : ByteArray := prog_18_method_1_code
def yX18_init : MethodName := ⟨RX18, "<init>", "(II[I)V"⟩
def dkwX18_init_0 : List UInt8 := [42, 27, 28, 45, 183, 0, 1, 177]
abbrev dktX18_init_0 : List UInt8 := dkwX18_init_0 ++ []
theorem dksX18_init_0 : cX18_init.data.toList.drop 0 = dktX18_init_0 := by decide +kernel
theorem dX18_init_0 : decode cX18_init 0 = .ok (.aload_n 0, 1) := dk_42 (dk_at dksX18_init_0 0 rfl rfl)
theorem dX18_init_1 : decode cX18_init 1 = .ok (.iload_n 1, 1) := dk_27 (dk_at dksX18_init_0 1 rfl rfl)
theorem dX18_init_2 : decode cX18_init 2 = .ok (.iload_n 2, 1) := dk_28 (dk_at dksX18_init_0 2 rfl rfl)
theorem dX18_init_3 : decode cX18_init 3 = .ok (.aload_n 3, 1) := dk_45 (dk_at dksX18_init_0 3 rfl rfl)
theorem dX18_init_4 : decode cX18_init 4 = .ok (.invokespecial 1, 3) := dk_183 0 1 (dk_at dksX18_init_0 4 rfl rfl)
theorem dX18_init_7 : decode cX18_init 7 = .ok (.return_, 1) := dk_177 (dk_at dksX18_init_0 7 rfl rfl)
abbrev cX18_says : ByteArray := prog_18_method_3_code
def yX18_says : MethodName := ⟨RX18, "says", "(Z)Z"⟩
def dkwX18_says_0 : List UInt8 := [42, 27, 183, 0, 11, 154, 0, 7, 4, 167, 0, 4, 3, 172]
abbrev dktX18_says_0 : List UInt8 := dkwX18_says_0 ++ []
theorem dksX18_says_0 : cX18_says.data.toList.drop 0 = dktX18_says_0 := by decide +kernel
theorem dX18_says_0 : decode cX18_says 0 = .ok (.aload_n 0, 1) := dk_42 (dk_at dksX18_says_0 0 rfl rfl)
theorem dX18_says_1 : decode cX18_says 1 = .ok (.iload_n 1, 1) := dk_27 (dk_at dksX18_says_0 1 rfl rfl)
theorem dX18_says_2 : decode cX18_says 2 = .ok (.invokespecial 11, 3) := dk_183 0 11 (dk_at dksX18_says_0 2 rfl rfl)
theorem dX18_says_5 : decode cX18_says 5 = .ok (.ifCond .ne 7, 3) := dk_154 0 7 (dk_at dksX18_says_0 5 rfl rfl)
theorem dX18_says_8 : decode cX18_says 8 = .ok (.iconst 1, 1) := dk_4 (dk_at dksX18_says_0 8 rfl rfl)
theorem dX18_says_9 : decode cX18_says 9 = .ok (.goto 4, 3) := dk_167 0 4 (dk_at dksX18_says_0 9 rfl rfl)
theorem dX18_says_12 : decode cX18_says 12 = .ok (.iconst 0, 1) := dk_3 (dk_at dksX18_says_0 12 rfl rfl)
theorem dX18_says_13 : decode cX18_says 13 = .ok (.ireturn, 1) := dk_172 (dk_at dksX18_says_0 13 rfl rfl)
abbrev cX18_kind : ByteArray := prog_18_method_2_code
def yX18_kind : MethodName := ⟨RX18, "kind", "()I"⟩
def dkwX18_kind_0 : List UInt8 := [42, 183, 0, 7, 5, 96, 172]
abbrev dktX18_kind_0 : List UInt8 := dkwX18_kind_0 ++ []
theorem dksX18_kind_0 : cX18_kind.data.toList.drop 0 = dktX18_kind_0 := by decide +kernel
theorem dX18_kind_0 : decode cX18_kind 0 = .ok (.aload_n 0, 1) := dk_42 (dk_at dksX18_kind_0 0 rfl rfl)
theorem dX18_kind_1 : decode cX18_kind 1 = .ok (.invokespecial 7, 3) := dk_183 0 7 (dk_at dksX18_kind_0 1 rfl rfl)
theorem dX18_kind_4 : decode cX18_kind 4 = .ok (.iconst 2, 1) := dk_5 (dk_at dksX18_kind_0 4 rfl rfl)
theorem dX18_kind_5 : decode cX18_kind 5 = .ok (.iadd, 1) := dk_96 (dk_at dksX18_kind_0 5 rfl rfl)
theorem dX18_kind_6 : decode cX18_kind 6 = .ok (.ireturn, 1) := dk_172 (dk_at dksX18_kind_0 6 rfl rfl)
theorem q145 : (Jvm.Cond.initialized "ApartBench$Wise") ∈ lw_all := lw_g (lw_at lw_m1 40 rfl) rfl
theorem q683 : (Jvm.Cond.selects "ApartBench$Wise" ({ cls := "java/lang/Object", name := "getClass", desc := "()Ljava/lang/Class;" } : Jvm.MethodName) ({ cls := "java/lang/Object", name := "getClass", desc := "()Ljava/lang/Class;" } : Jvm.MethodName)) ∈ lw_all := lw_g (lw_at lw_m3 98 rfl) rfl
theorem q1233 : (Jvm.Cond.instantiable "ApartBench$Wise" (3 : Nat)) ∈ lw_all := lw_g (lw_at lw_m5 168 rfl) rfl
theorem q1235 : (Jvm.Cond.instanceMethod ({ cls := "ApartBench$Wise", name := "<init>", desc := "(II[I)V" } : Jvm.MethodName)) ∈ lw_all := lw_g (lw_at lw_m5 170 rfl) rfl
theorem q1236 : (Jvm.Cond.code ({ cls := "ApartBench$Wise", name := "<init>", desc := "(II[I)V" } : Jvm.MethodName) prog_18_method_1_code (4 : Nat) (Option.none : Option Jvm.ClassFile.FieldType)) ∈ lw_all := lw_g (lw_at lw_m5 171 rfl) rfl
theorem q1237 : (Jvm.Cond.methodLink "ApartBench$Wise" (1 : Nat) ({ cls := "ApartBench$Judge", name := "<init>", desc := "(II[I)V" } : Jvm.MethodName)) ∈ lw_all := lw_g (lw_at lw_m5 172 rfl) rfl
theorem q1238 : (Jvm.Cond.laysFinal "ApartBench$Wise" "ApartBench$Judge" "day" "I") ∈ lw_all := lw_g (lw_at lw_m5 173 rfl) rfl
theorem q1239 : (Jvm.Cond.laysFinal "ApartBench$Wise" "ApartBench$Judge" "harsh" "I") ∈ lw_all := lw_g (lw_at lw_m5 174 rfl) rfl
theorem q1240 : (Jvm.Cond.laysFinal "ApartBench$Wise" "ApartBench$Judge" "route" "[I") ∈ lw_all := lw_g (lw_at lw_m5 175 rfl) rfl
theorem q1241 : (Jvm.Cond.superclass "ApartBench$Wise" "ApartBench$Judge") ∈ lw_all := lw_g (lw_at lw_m5 176 rfl) rfl
theorem q1313 : (Jvm.Cond.selects "ApartBench$Wise" ({ cls := "ApartBench$Judge", name := "towns", desc := "()I" } : Jvm.MethodName) ({ cls := "ApartBench$Judge", name := "towns", desc := "()I" } : Jvm.MethodName)) ∈ lw_all := lw_g (lw_at lw_m6 8 rfl) rfl
theorem q1320 : (Jvm.Cond.selects "ApartBench$Wise" ({ cls := "ApartBench$Judge", name := "town", desc := "(IZ)I" } : Jvm.MethodName) ({ cls := "ApartBench$Judge", name := "town", desc := "(IZ)I" } : Jvm.MethodName)) ∈ lw_all := lw_g (lw_at lw_m6 15 rfl) rfl
theorem q1385 : (Jvm.Cond.selects "ApartBench$Wise" ({ cls := "ApartBench$Judge", name := "says", desc := "(Z)Z" } : Jvm.MethodName) ({ cls := "ApartBench$Wise", name := "says", desc := "(Z)Z" } : Jvm.MethodName)) ∈ lw_all := lw_g (lw_at lw_m6 80 rfl) rfl
theorem q1386 : (Jvm.Cond.instanceMethod ({ cls := "ApartBench$Wise", name := "says", desc := "(Z)Z" } : Jvm.MethodName)) ∈ lw_all := lw_g (lw_at lw_m6 81 rfl) rfl
theorem q1387 : (Jvm.Cond.code ({ cls := "ApartBench$Wise", name := "says", desc := "(Z)Z" } : Jvm.MethodName) prog_18_method_3_code (2 : Nat) (Option.some Jvm.ClassFile.FieldType.boolean)) ∈ lw_all := lw_g (lw_at lw_m6 82 rfl) rfl
theorem q1388 : (Jvm.Cond.methodLink "ApartBench$Wise" (11 : Nat) ({ cls := "ApartBench$Judge", name := "says", desc := "(Z)Z" } : Jvm.MethodName)) ∈ lw_all := lw_g (lw_at lw_m6 83 rfl) rfl
theorem q1419 : (Jvm.Cond.selects "ApartBench$Wise" ({ cls := "ApartBench$Judge", name := "hears", desc := "()Z" } : Jvm.MethodName) ({ cls := "ApartBench$Judge", name := "hears", desc := "()Z" } : Jvm.MethodName)) ∈ lw_all := lw_g (lw_at lw_m6 114 rfl) rfl
theorem q1475 : (Jvm.Cond.selects "ApartBench$Wise" ({ cls := "ApartBench$Judge", name := "kind", desc := "()I" } : Jvm.MethodName) ({ cls := "ApartBench$Wise", name := "kind", desc := "()I" } : Jvm.MethodName)) ∈ lw_all := lw_g (lw_at lw_m6 170 rfl) rfl
theorem q1476 : (Jvm.Cond.instanceMethod ({ cls := "ApartBench$Wise", name := "kind", desc := "()I" } : Jvm.MethodName)) ∈ lw_all := lw_g (lw_at lw_m6 171 rfl) rfl
theorem q1477 : (Jvm.Cond.code ({ cls := "ApartBench$Wise", name := "kind", desc := "()I" } : Jvm.MethodName) prog_18_method_2_code (1 : Nat) (Option.some Jvm.ClassFile.FieldType.int)) ∈ lw_all := lw_g (lw_at lw_m6 172 rfl) rfl
theorem q1478 : (Jvm.Cond.methodLink "ApartBench$Wise" (7 : Nat) ({ cls := "ApartBench$Judge", name := "kind", desc := "()I" } : Jvm.MethodName)) ∈ lw_all := lw_g (lw_at lw_m6 173 rfl) rfl
theorem q2346 : (Jvm.Cond.castable "ApartBench$Wise" "ApartBench$Judge") ∈ lw_tbl := lw_at lw_m10 81 rfl
theorem q2367 : (Jvm.Cond.castable "ApartBench$Wise" "java/lang/Object") ∈ lw_tbl := lw_at lw_m10 102 rfl
theorem in_X18 : ∀ w ∈ wsX180, w ∈ lw_all := lw_in wsX180 [1238, 1239, 1240] (by decide +kernel) (by decide +kernel)

/-! java/util/AbstractCollection -/
set_option maxRecDepth 100000
def RJ0 : String := "java/util/AbstractCollection"
abbrev cJ0_init : ByteArray := prog_43_method_1_code
def yJ0_init : MethodName := ⟨RJ0, "<init>", "()V"⟩
theorem dJ0_init_0 : decode cJ0_init 0 = .ok (.aload_n 0, 1) := by decide +kernel
theorem dJ0_init_1 : decode cJ0_init 1 = .ok (.invokespecial 1, 3) := by decide +kernel
theorem dJ0_init_4 : decode cJ0_init 4 = .ok (.return_, 1) := by decide +kernel
theorem q108 : (Jvm.Cond.initialized "java/util/AbstractCollection") ∈ lw_all := lw_g (lw_at lw_m1 3 rfl) rfl
theorem q170 : (Jvm.Cond.instanceMethod ({ cls := "java/util/AbstractCollection", name := "<init>", desc := "()V" } : Jvm.MethodName)) ∈ lw_all := lw_g (lw_at lw_m1 65 rfl) rfl
theorem q171 : (Jvm.Cond.code ({ cls := "java/util/AbstractCollection", name := "<init>", desc := "()V" } : Jvm.MethodName) prog_43_method_1_code (1 : Nat) (Option.none : Option Jvm.ClassFile.FieldType)) ∈ lw_all := lw_g (lw_at lw_m1 66 rfl) rfl
theorem q172 : (Jvm.Cond.methodLink "java/util/AbstractCollection" (1 : Nat) ({ cls := "java/lang/Object", name := "<init>", desc := "()V" } : Jvm.MethodName)) ∈ lw_all := lw_g (lw_at lw_m1 67 rfl) rfl

/-! java/util/AbstractList -/
set_option maxRecDepth 100000
def RJ1 : String := "java/util/AbstractList"
abbrev cJ1_init : ByteArray := prog_44_method_1_code
def yJ1_init : MethodName := ⟨RJ1, "<init>", "()V"⟩
def dkwJ1_init_0 : List UInt8 := [42, 183, 0, 1, 42, 3, 181, 0, 7, 177]
abbrev dktJ1_init_0 : List UInt8 := dkwJ1_init_0 ++ []
theorem dksJ1_init_0 : cJ1_init.data.toList.drop 0 = dktJ1_init_0 := by decide +kernel
theorem dJ1_init_0 : decode cJ1_init 0 = .ok (.aload_n 0, 1) := dk_42 (dk_at dksJ1_init_0 0 rfl rfl)
theorem dJ1_init_1 : decode cJ1_init 1 = .ok (.invokespecial 1, 3) := dk_183 0 1 (dk_at dksJ1_init_0 1 rfl rfl)
theorem dJ1_init_4 : decode cJ1_init 4 = .ok (.aload_n 0, 1) := dk_42 (dk_at dksJ1_init_0 4 rfl rfl)
theorem dJ1_init_5 : decode cJ1_init 5 = .ok (.iconst 0, 1) := dk_3 (dk_at dksJ1_init_0 5 rfl rfl)
theorem dJ1_init_6 : decode cJ1_init 6 = .ok (.putfield 7, 3) := dk_181 0 7 (dk_at dksJ1_init_0 6 rfl rfl)
theorem dJ1_init_9 : decode cJ1_init 9 = .ok (.return_, 1) := dk_177 (dk_at dksJ1_init_0 9 rfl rfl)
theorem q109 : (Jvm.Cond.initialized "java/util/AbstractList") ∈ lw_all := lw_g (lw_at lw_m1 4 rfl) rfl
theorem q167 : (Jvm.Cond.instanceMethod ({ cls := "java/util/AbstractList", name := "<init>", desc := "()V" } : Jvm.MethodName)) ∈ lw_all := lw_g (lw_at lw_m1 62 rfl) rfl
theorem q168 : (Jvm.Cond.code ({ cls := "java/util/AbstractList", name := "<init>", desc := "()V" } : Jvm.MethodName) prog_44_method_1_code (1 : Nat) (Option.none : Option Jvm.ClassFile.FieldType)) ∈ lw_all := lw_g (lw_at lw_m1 63 rfl) rfl
theorem q169 : (Jvm.Cond.methodLink "java/util/AbstractList" (1 : Nat) ({ cls := "java/util/AbstractCollection", name := "<init>", desc := "()V" } : Jvm.MethodName)) ∈ lw_all := lw_g (lw_at lw_m1 64 rfl) rfl
theorem q492 : (Jvm.Cond.fieldLink "java/util/AbstractList" (7 : Nat) "java/util/AbstractList" "modCount" "I") ∈ lw_all := lw_g (lw_at lw_m2 147 rfl) rfl
theorem q500 : (Jvm.Cond.soleField "java/util/AbstractList" "modCount") ∈ lw_all := lw_g (lw_at lw_m2 155 rfl) rfl

/-! java/lang/StringUTF16 -/
set_option maxRecDepth 100000
def RJ10 : String := "java/lang/StringUTF16"
abbrev cJ10_newBytesFor : ByteArray := prog_38_method_2_code
def yJ10_newBytesFor : MethodName := ⟨RJ10, "newBytesFor", "(I)[B"⟩
def dkwJ10_newBytesFor_0 : List UInt8 := [26, 184, 0, 11, 188, 8, 176]
abbrev dktJ10_newBytesFor_0 : List UInt8 := dkwJ10_newBytesFor_0 ++ []
theorem dksJ10_newBytesFor_0 : cJ10_newBytesFor.data.toList.drop 0 = dktJ10_newBytesFor_0 := by decide +kernel
theorem dJ10_newBytesFor_0 : decode cJ10_newBytesFor 0 = .ok (.iload_n 0, 1) := dk_26 (dk_at dksJ10_newBytesFor_0 0 rfl rfl)
theorem dJ10_newBytesFor_1 : decode cJ10_newBytesFor 1 = .ok (.invokestatic 11, 3) := dk_184 0 11 (dk_at dksJ10_newBytesFor_0 1 rfl rfl)
theorem dJ10_newBytesFor_4 : decode cJ10_newBytesFor 4 = .ok (.newarray .byte, 2) := dk_188_8 (dk_at dksJ10_newBytesFor_0 4 rfl rfl)
theorem dJ10_newBytesFor_6 : decode cJ10_newBytesFor 6 = .ok (.areturn, 1) := dk_176 (dk_at dksJ10_newBytesFor_0 6 rfl rfl)
abbrev cJ10_newBytesLength : ByteArray := prog_38_method_3_code
def yJ10_newBytesLength : MethodName := ⟨RJ10, "newBytesLength", "(I)I"⟩
def dkwJ10_newBytesLength_2 : List UInt8 := [182, 0, 32, 182, 0, 37, 183, 0, 41, 191, 26, 4, 120, 172]
abbrev dktJ10_newBytesLength_2 : List UInt8 := dkwJ10_newBytesLength_2 ++ []
def dkwJ10_newBytesLength_1 : List UInt8 := [187, 0, 23, 89, 183, 0, 25, 18, 26, 182, 0, 28, 26, 182, 0, 32, 18, 35, 182, 0, 28, 18, 20]
abbrev dktJ10_newBytesLength_1 : List UInt8 := dkwJ10_newBytesLength_1 ++ dktJ10_newBytesLength_2
def dkwJ10_newBytesLength_0 : List UInt8 := [26, 156, 0, 11, 187, 0, 17, 89, 183, 0, 19, 191, 26, 18, 20, 161, 0, 40, 187, 0, 21, 89]
abbrev dktJ10_newBytesLength_0 : List UInt8 := dkwJ10_newBytesLength_0 ++ dktJ10_newBytesLength_1
theorem dksJ10_newBytesLength_0 : cJ10_newBytesLength.data.toList.drop 0 = dktJ10_newBytesLength_0 := by decide +kernel
theorem dksJ10_newBytesLength_1 : cJ10_newBytesLength.data.toList.drop 22 = dktJ10_newBytesLength_1 := dk_seg dksJ10_newBytesLength_0 22 rfl rfl
theorem dksJ10_newBytesLength_2 : cJ10_newBytesLength.data.toList.drop 45 = dktJ10_newBytesLength_2 := dk_seg dksJ10_newBytesLength_1 23 rfl rfl
theorem dJ10_newBytesLength_0 : decode cJ10_newBytesLength 0 = .ok (.iload_n 0, 1) := dk_26 (dk_at dksJ10_newBytesLength_0 0 rfl rfl)
theorem dJ10_newBytesLength_1 : decode cJ10_newBytesLength 1 = .ok (.ifCond .ge 11, 3) := dk_156 0 11 (dk_at dksJ10_newBytesLength_0 1 rfl rfl)
theorem dJ10_newBytesLength_4 : decode cJ10_newBytesLength 4 = .ok (.new 17, 3) := dk_187 0 17 (dk_at dksJ10_newBytesLength_0 4 rfl rfl)
theorem dJ10_newBytesLength_7 : decode cJ10_newBytesLength 7 = .ok (.dup, 1) := dk_89 (dk_at dksJ10_newBytesLength_0 7 rfl rfl)
theorem dJ10_newBytesLength_8 : decode cJ10_newBytesLength 8 = .ok (.invokespecial 19, 3) := dk_183 0 19 (dk_at dksJ10_newBytesLength_0 8 rfl rfl)
theorem dJ10_newBytesLength_11 : decode cJ10_newBytesLength 11 = .ok (.athrow, 1) := dk_191 (dk_at dksJ10_newBytesLength_0 11 rfl rfl)
theorem dJ10_newBytesLength_12 : decode cJ10_newBytesLength 12 = .ok (.iload_n 0, 1) := dk_26 (dk_at dksJ10_newBytesLength_0 12 rfl rfl)
theorem dJ10_newBytesLength_13 : decode cJ10_newBytesLength 13 = .ok (.ldc 20, 2) := dk_18 20 (dk_at dksJ10_newBytesLength_0 13 rfl rfl)
theorem dJ10_newBytesLength_15 : decode cJ10_newBytesLength 15 = .ok (.if_icmp .lt 40, 3) := dk_161 0 40 (dk_at dksJ10_newBytesLength_0 15 rfl rfl)
theorem dJ10_newBytesLength_18 : decode cJ10_newBytesLength 18 = .ok (.new 21, 3) := dk_187 0 21 (dk_at dksJ10_newBytesLength_0 18 rfl rfl)
theorem dJ10_newBytesLength_21 : decode cJ10_newBytesLength 21 = .ok (.dup, 1) := dk_89 (dk_at dksJ10_newBytesLength_0 21 rfl rfl)
theorem dJ10_newBytesLength_22 : decode cJ10_newBytesLength 22 = .ok (.new 23, 3) := dk_187 0 23 (dk_at dksJ10_newBytesLength_1 0 rfl rfl)
theorem dJ10_newBytesLength_25 : decode cJ10_newBytesLength 25 = .ok (.dup, 1) := dk_89 (dk_at dksJ10_newBytesLength_1 3 rfl rfl)
theorem dJ10_newBytesLength_26 : decode cJ10_newBytesLength 26 = .ok (.invokespecial 25, 3) := dk_183 0 25 (dk_at dksJ10_newBytesLength_1 4 rfl rfl)
theorem dJ10_newBytesLength_29 : decode cJ10_newBytesLength 29 = .ok (.ldc 26, 2) := dk_18 26 (dk_at dksJ10_newBytesLength_1 7 rfl rfl)
theorem dJ10_newBytesLength_31 : decode cJ10_newBytesLength 31 = .ok (.invokevirtual 28, 3) := dk_182 0 28 (dk_at dksJ10_newBytesLength_1 9 rfl rfl)
theorem dJ10_newBytesLength_34 : decode cJ10_newBytesLength 34 = .ok (.iload_n 0, 1) := dk_26 (dk_at dksJ10_newBytesLength_1 12 rfl rfl)
theorem dJ10_newBytesLength_35 : decode cJ10_newBytesLength 35 = .ok (.invokevirtual 32, 3) := dk_182 0 32 (dk_at dksJ10_newBytesLength_1 13 rfl rfl)
theorem dJ10_newBytesLength_38 : decode cJ10_newBytesLength 38 = .ok (.ldc 35, 2) := dk_18 35 (dk_at dksJ10_newBytesLength_1 16 rfl rfl)
theorem dJ10_newBytesLength_40 : decode cJ10_newBytesLength 40 = .ok (.invokevirtual 28, 3) := dk_182 0 28 (dk_at dksJ10_newBytesLength_1 18 rfl rfl)
theorem dJ10_newBytesLength_43 : decode cJ10_newBytesLength 43 = .ok (.ldc 20, 2) := dk_18 20 (dk_at dksJ10_newBytesLength_1 21 rfl rfl)
theorem dJ10_newBytesLength_45 : decode cJ10_newBytesLength 45 = .ok (.invokevirtual 32, 3) := dk_182 0 32 (dk_at dksJ10_newBytesLength_2 0 rfl rfl)
theorem dJ10_newBytesLength_48 : decode cJ10_newBytesLength 48 = .ok (.invokevirtual 37, 3) := dk_182 0 37 (dk_at dksJ10_newBytesLength_2 3 rfl rfl)
theorem dJ10_newBytesLength_51 : decode cJ10_newBytesLength 51 = .ok (.invokespecial 41, 3) := dk_183 0 41 (dk_at dksJ10_newBytesLength_2 6 rfl rfl)
theorem dJ10_newBytesLength_54 : decode cJ10_newBytesLength 54 = .ok (.athrow, 1) := dk_191 (dk_at dksJ10_newBytesLength_2 9 rfl rfl)
theorem dJ10_newBytesLength_55 : decode cJ10_newBytesLength 55 = .ok (.iload_n 0, 1) := dk_26 (dk_at dksJ10_newBytesLength_2 10 rfl rfl)
theorem dJ10_newBytesLength_56 : decode cJ10_newBytesLength 56 = .ok (.iconst 1, 1) := dk_4 (dk_at dksJ10_newBytesLength_2 11 rfl rfl)
theorem dJ10_newBytesLength_57 : decode cJ10_newBytesLength 57 = .ok (.ishl, 1) := dk_120 (dk_at dksJ10_newBytesLength_2 12 rfl rfl)
theorem dJ10_newBytesLength_58 : decode cJ10_newBytesLength 58 = .ok (.ireturn, 1) := dk_172 (dk_at dksJ10_newBytesLength_2 13 rfl rfl)
abbrev cJ10_putCharsAt : ByteArray := prog_38_method_81_code
def yJ10_putCharsAt : MethodName := ⟨RJ10, "putCharsAt", "([BICCCC)I"⟩
def dkwJ10_putCharsAt_3 : List UInt8 := [21, 6, 172]
abbrev dktJ10_putCharsAt_3 : List UInt8 := dkwJ10_putCharsAt_3 ++ []
def dkwJ10_putCharsAt_2 : List UInt8 := [184, 0, 111, 178, 0, 44, 154, 0, 17, 27, 21, 6, 159, 0, 11, 187, 0, 52, 89, 183, 0, 66, 191]
abbrev dktJ10_putCharsAt_2 : List UInt8 := dkwJ10_putCharsAt_2 ++ dktJ10_putCharsAt_3
def dkwJ10_putCharsAt_1 : List UInt8 := [132, 1, 1, 29, 184, 0, 111, 42, 27, 132, 1, 1, 21, 4, 184, 0, 111, 42, 27, 132, 1, 1, 21, 5]
abbrev dktJ10_putCharsAt_1 : List UInt8 := dkwJ10_putCharsAt_1 ++ dktJ10_putCharsAt_2
def dkwJ10_putCharsAt_0 : List UInt8 := [27, 7, 96, 54, 6, 27, 21, 6, 42, 184, 0, 96, 42, 27, 132, 1, 1, 28, 184, 0, 111, 42, 27]
abbrev dktJ10_putCharsAt_0 : List UInt8 := dkwJ10_putCharsAt_0 ++ dktJ10_putCharsAt_1
theorem dksJ10_putCharsAt_0 : cJ10_putCharsAt.data.toList.drop 0 = dktJ10_putCharsAt_0 := by decide +kernel
theorem dksJ10_putCharsAt_1 : cJ10_putCharsAt.data.toList.drop 23 = dktJ10_putCharsAt_1 := dk_seg dksJ10_putCharsAt_0 23 rfl rfl
theorem dksJ10_putCharsAt_2 : cJ10_putCharsAt.data.toList.drop 47 = dktJ10_putCharsAt_2 := dk_seg dksJ10_putCharsAt_1 24 rfl rfl
theorem dksJ10_putCharsAt_3 : cJ10_putCharsAt.data.toList.drop 70 = dktJ10_putCharsAt_3 := dk_seg dksJ10_putCharsAt_2 23 rfl rfl
theorem dJ10_putCharsAt_0 : decode cJ10_putCharsAt 0 = .ok (.iload_n 1, 1) := dk_27 (dk_at dksJ10_putCharsAt_0 0 rfl rfl)
theorem dJ10_putCharsAt_1 : decode cJ10_putCharsAt 1 = .ok (.iconst 4, 1) := dk_7 (dk_at dksJ10_putCharsAt_0 1 rfl rfl)
theorem dJ10_putCharsAt_2 : decode cJ10_putCharsAt 2 = .ok (.iadd, 1) := dk_96 (dk_at dksJ10_putCharsAt_0 2 rfl rfl)
theorem dJ10_putCharsAt_3 : decode cJ10_putCharsAt 3 = .ok (.istore 6, 2) := dk_54 6 (dk_at dksJ10_putCharsAt_0 3 rfl rfl)
theorem dJ10_putCharsAt_5 : decode cJ10_putCharsAt 5 = .ok (.iload_n 1, 1) := dk_27 (dk_at dksJ10_putCharsAt_0 5 rfl rfl)
theorem dJ10_putCharsAt_6 : decode cJ10_putCharsAt 6 = .ok (.iload 6, 2) := dk_21 6 (dk_at dksJ10_putCharsAt_0 6 rfl rfl)
theorem dJ10_putCharsAt_8 : decode cJ10_putCharsAt 8 = .ok (.aload_n 0, 1) := dk_42 (dk_at dksJ10_putCharsAt_0 8 rfl rfl)
theorem dJ10_putCharsAt_9 : decode cJ10_putCharsAt 9 = .ok (.invokestatic 96, 3) := dk_184 0 96 (dk_at dksJ10_putCharsAt_0 9 rfl rfl)
theorem dJ10_putCharsAt_12 : decode cJ10_putCharsAt 12 = .ok (.aload_n 0, 1) := dk_42 (dk_at dksJ10_putCharsAt_0 12 rfl rfl)
theorem dJ10_putCharsAt_13 : decode cJ10_putCharsAt 13 = .ok (.iload_n 1, 1) := dk_27 (dk_at dksJ10_putCharsAt_0 13 rfl rfl)
theorem dJ10_putCharsAt_14 : decode cJ10_putCharsAt 14 = .ok (.iinc 1 1, 3) := dk_132 1 1 (dk_at dksJ10_putCharsAt_0 14 rfl rfl)
theorem dJ10_putCharsAt_17 : decode cJ10_putCharsAt 17 = .ok (.iload_n 2, 1) := dk_28 (dk_at dksJ10_putCharsAt_0 17 rfl rfl)
theorem dJ10_putCharsAt_18 : decode cJ10_putCharsAt 18 = .ok (.invokestatic 111, 3) := dk_184 0 111 (dk_at dksJ10_putCharsAt_0 18 rfl rfl)
theorem dJ10_putCharsAt_21 : decode cJ10_putCharsAt 21 = .ok (.aload_n 0, 1) := dk_42 (dk_at dksJ10_putCharsAt_0 21 rfl rfl)
theorem dJ10_putCharsAt_22 : decode cJ10_putCharsAt 22 = .ok (.iload_n 1, 1) := dk_27 (dk_at dksJ10_putCharsAt_0 22 rfl rfl)
theorem dJ10_putCharsAt_23 : decode cJ10_putCharsAt 23 = .ok (.iinc 1 1, 3) := dk_132 1 1 (dk_at dksJ10_putCharsAt_1 0 rfl rfl)
theorem dJ10_putCharsAt_26 : decode cJ10_putCharsAt 26 = .ok (.iload_n 3, 1) := dk_29 (dk_at dksJ10_putCharsAt_1 3 rfl rfl)
theorem dJ10_putCharsAt_27 : decode cJ10_putCharsAt 27 = .ok (.invokestatic 111, 3) := dk_184 0 111 (dk_at dksJ10_putCharsAt_1 4 rfl rfl)
theorem dJ10_putCharsAt_30 : decode cJ10_putCharsAt 30 = .ok (.aload_n 0, 1) := dk_42 (dk_at dksJ10_putCharsAt_1 7 rfl rfl)
theorem dJ10_putCharsAt_31 : decode cJ10_putCharsAt 31 = .ok (.iload_n 1, 1) := dk_27 (dk_at dksJ10_putCharsAt_1 8 rfl rfl)
theorem dJ10_putCharsAt_32 : decode cJ10_putCharsAt 32 = .ok (.iinc 1 1, 3) := dk_132 1 1 (dk_at dksJ10_putCharsAt_1 9 rfl rfl)
theorem dJ10_putCharsAt_35 : decode cJ10_putCharsAt 35 = .ok (.iload 4, 2) := dk_21 4 (dk_at dksJ10_putCharsAt_1 12 rfl rfl)
theorem dJ10_putCharsAt_37 : decode cJ10_putCharsAt 37 = .ok (.invokestatic 111, 3) := dk_184 0 111 (dk_at dksJ10_putCharsAt_1 14 rfl rfl)
theorem dJ10_putCharsAt_40 : decode cJ10_putCharsAt 40 = .ok (.aload_n 0, 1) := dk_42 (dk_at dksJ10_putCharsAt_1 17 rfl rfl)
theorem dJ10_putCharsAt_41 : decode cJ10_putCharsAt 41 = .ok (.iload_n 1, 1) := dk_27 (dk_at dksJ10_putCharsAt_1 18 rfl rfl)
theorem dJ10_putCharsAt_42 : decode cJ10_putCharsAt 42 = .ok (.iinc 1 1, 3) := dk_132 1 1 (dk_at dksJ10_putCharsAt_1 19 rfl rfl)
theorem dJ10_putCharsAt_45 : decode cJ10_putCharsAt 45 = .ok (.iload 5, 2) := dk_21 5 (dk_at dksJ10_putCharsAt_1 22 rfl rfl)
theorem dJ10_putCharsAt_47 : decode cJ10_putCharsAt 47 = .ok (.invokestatic 111, 3) := dk_184 0 111 (dk_at dksJ10_putCharsAt_2 0 rfl rfl)
theorem dJ10_putCharsAt_50 : decode cJ10_putCharsAt 50 = .ok (.getstatic 44, 3) := dk_178 0 44 (dk_at dksJ10_putCharsAt_2 3 rfl rfl)
theorem dJ10_putCharsAt_53 : decode cJ10_putCharsAt 53 = .ok (.ifCond .ne 17, 3) := dk_154 0 17 (dk_at dksJ10_putCharsAt_2 6 rfl rfl)
theorem dJ10_putCharsAt_56 : decode cJ10_putCharsAt 56 = .ok (.iload_n 1, 1) := dk_27 (dk_at dksJ10_putCharsAt_2 9 rfl rfl)
theorem dJ10_putCharsAt_57 : decode cJ10_putCharsAt 57 = .ok (.iload 6, 2) := dk_21 6 (dk_at dksJ10_putCharsAt_2 10 rfl rfl)
theorem dJ10_putCharsAt_59 : decode cJ10_putCharsAt 59 = .ok (.if_icmp .eq 11, 3) := dk_159 0 11 (dk_at dksJ10_putCharsAt_2 12 rfl rfl)
theorem dJ10_putCharsAt_62 : decode cJ10_putCharsAt 62 = .ok (.new 52, 3) := dk_187 0 52 (dk_at dksJ10_putCharsAt_2 15 rfl rfl)
theorem dJ10_putCharsAt_65 : decode cJ10_putCharsAt 65 = .ok (.dup, 1) := dk_89 (dk_at dksJ10_putCharsAt_2 18 rfl rfl)
theorem dJ10_putCharsAt_66 : decode cJ10_putCharsAt 66 = .ok (.invokespecial 66, 3) := dk_183 0 66 (dk_at dksJ10_putCharsAt_2 19 rfl rfl)
theorem dJ10_putCharsAt_69 : decode cJ10_putCharsAt 69 = .ok (.athrow, 1) := dk_191 (dk_at dksJ10_putCharsAt_2 22 rfl rfl)
theorem dJ10_putCharsAt_70 : decode cJ10_putCharsAt 70 = .ok (.iload 6, 2) := dk_21 6 (dk_at dksJ10_putCharsAt_3 0 rfl rfl)
theorem dJ10_putCharsAt_72 : decode cJ10_putCharsAt 72 = .ok (.ireturn, 1) := dk_172 (dk_at dksJ10_putCharsAt_3 2 rfl rfl)
abbrev cJ10_checkBoundsBeginEnd : ByteArray := prog_38_method_93_code
def yJ10_checkBoundsBeginEnd : MethodName := ⟨RJ10, "checkBoundsBeginEnd", "(II[B)V"⟩
def dkwJ10_checkBoundsBeginEnd_0 : List UInt8 := [26, 27, 44, 184, 0, 48, 184, 0, 241, 177]
abbrev dktJ10_checkBoundsBeginEnd_0 : List UInt8 := dkwJ10_checkBoundsBeginEnd_0 ++ []
theorem dksJ10_checkBoundsBeginEnd_0 : cJ10_checkBoundsBeginEnd.data.toList.drop 0 = dktJ10_checkBoundsBeginEnd_0 := by decide +kernel
theorem dJ10_checkBoundsBeginEnd_0 : decode cJ10_checkBoundsBeginEnd 0 = .ok (.iload_n 0, 1) := dk_26 (dk_at dksJ10_checkBoundsBeginEnd_0 0 rfl rfl)
theorem dJ10_checkBoundsBeginEnd_1 : decode cJ10_checkBoundsBeginEnd 1 = .ok (.iload_n 1, 1) := dk_27 (dk_at dksJ10_checkBoundsBeginEnd_0 1 rfl rfl)
theorem dJ10_checkBoundsBeginEnd_2 : decode cJ10_checkBoundsBeginEnd 2 = .ok (.aload_n 2, 1) := dk_44 (dk_at dksJ10_checkBoundsBeginEnd_0 2 rfl rfl)
theorem dJ10_checkBoundsBeginEnd_3 : decode cJ10_checkBoundsBeginEnd 3 = .ok (.invokestatic 48, 3) := dk_184 0 48 (dk_at dksJ10_checkBoundsBeginEnd_0 3 rfl rfl)
theorem dJ10_checkBoundsBeginEnd_6 : decode cJ10_checkBoundsBeginEnd 6 = .ok (.invokestatic 241, 3) := dk_184 0 241 (dk_at dksJ10_checkBoundsBeginEnd_0 6 rfl rfl)
theorem dJ10_checkBoundsBeginEnd_9 : decode cJ10_checkBoundsBeginEnd 9 = .ok (.return_, 1) := dk_177 (dk_at dksJ10_checkBoundsBeginEnd_0 9 rfl rfl)
abbrev cJ10_length : ByteArray := prog_38_method_6_code
def yJ10_length : MethodName := ⟨RJ10, "length", "([B)I"⟩
def dkwJ10_length_0 : List UInt8 := [42, 190, 4, 122, 172]
abbrev dktJ10_length_0 : List UInt8 := dkwJ10_length_0 ++ []
theorem dksJ10_length_0 : cJ10_length.data.toList.drop 0 = dktJ10_length_0 := by decide +kernel
theorem dJ10_length_0 : decode cJ10_length 0 = .ok (.aload_n 0, 1) := dk_42 (dk_at dksJ10_length_0 0 rfl rfl)
theorem dJ10_length_1 : decode cJ10_length 1 = .ok (.arraylength, 1) := dk_190 (dk_at dksJ10_length_0 1 rfl rfl)
theorem dJ10_length_2 : decode cJ10_length 2 = .ok (.iconst 1, 1) := dk_4 (dk_at dksJ10_length_0 2 rfl rfl)
theorem dJ10_length_3 : decode cJ10_length 3 = .ok (.ishr, 1) := dk_122 (dk_at dksJ10_length_0 3 rfl rfl)
theorem dJ10_length_4 : decode cJ10_length 4 = .ok (.ireturn, 1) := dk_172 (dk_at dksJ10_length_0 4 rfl rfl)
abbrev cJ10_putChar : ByteArray := prog_38_method_4_code
def yJ10_putChar : MethodName := ⟨RJ10, "putChar", "([BII)V"⟩
def dkwJ10_putChar_2 : List UInt8 := [178, 0, 63, 122, 145, 84, 177]
abbrev dktJ10_putChar_2 : List UInt8 := dkwJ10_putChar_2 ++ []
def dkwJ10_putChar_1 : List UInt8 := [183, 0, 56, 191, 27, 4, 120, 60, 42, 27, 132, 1, 1, 28, 178, 0, 59, 122, 145, 84, 42, 27, 28]
abbrev dktJ10_putChar_1 : List UInt8 := dkwJ10_putChar_1 ++ dktJ10_putChar_2
def dkwJ10_putChar_0 : List UInt8 := [178, 0, 44, 154, 0, 25, 27, 155, 0, 11, 27, 42, 184, 0, 48, 161, 0, 13, 187, 0, 52, 89, 18, 54]
abbrev dktJ10_putChar_0 : List UInt8 := dkwJ10_putChar_0 ++ dktJ10_putChar_1
theorem dksJ10_putChar_0 : cJ10_putChar.data.toList.drop 0 = dktJ10_putChar_0 := by decide +kernel
theorem dksJ10_putChar_1 : cJ10_putChar.data.toList.drop 24 = dktJ10_putChar_1 := dk_seg dksJ10_putChar_0 24 rfl rfl
theorem dksJ10_putChar_2 : cJ10_putChar.data.toList.drop 47 = dktJ10_putChar_2 := dk_seg dksJ10_putChar_1 23 rfl rfl
theorem dJ10_putChar_0 : decode cJ10_putChar 0 = .ok (.getstatic 44, 3) := dk_178 0 44 (dk_at dksJ10_putChar_0 0 rfl rfl)
theorem dJ10_putChar_3 : decode cJ10_putChar 3 = .ok (.ifCond .ne 25, 3) := dk_154 0 25 (dk_at dksJ10_putChar_0 3 rfl rfl)
theorem dJ10_putChar_6 : decode cJ10_putChar 6 = .ok (.iload_n 1, 1) := dk_27 (dk_at dksJ10_putChar_0 6 rfl rfl)
theorem dJ10_putChar_7 : decode cJ10_putChar 7 = .ok (.ifCond .lt 11, 3) := dk_155 0 11 (dk_at dksJ10_putChar_0 7 rfl rfl)
theorem dJ10_putChar_10 : decode cJ10_putChar 10 = .ok (.iload_n 1, 1) := dk_27 (dk_at dksJ10_putChar_0 10 rfl rfl)
theorem dJ10_putChar_11 : decode cJ10_putChar 11 = .ok (.aload_n 0, 1) := dk_42 (dk_at dksJ10_putChar_0 11 rfl rfl)
theorem dJ10_putChar_12 : decode cJ10_putChar 12 = .ok (.invokestatic 48, 3) := dk_184 0 48 (dk_at dksJ10_putChar_0 12 rfl rfl)
theorem dJ10_putChar_15 : decode cJ10_putChar 15 = .ok (.if_icmp .lt 13, 3) := dk_161 0 13 (dk_at dksJ10_putChar_0 15 rfl rfl)
theorem dJ10_putChar_18 : decode cJ10_putChar 18 = .ok (.new 52, 3) := dk_187 0 52 (dk_at dksJ10_putChar_0 18 rfl rfl)
theorem dJ10_putChar_21 : decode cJ10_putChar 21 = .ok (.dup, 1) := dk_89 (dk_at dksJ10_putChar_0 21 rfl rfl)
theorem dJ10_putChar_22 : decode cJ10_putChar 22 = .ok (.ldc 54, 2) := dk_18 54 (dk_at dksJ10_putChar_0 22 rfl rfl)
theorem dJ10_putChar_24 : decode cJ10_putChar 24 = .ok (.invokespecial 56, 3) := dk_183 0 56 (dk_at dksJ10_putChar_1 0 rfl rfl)
theorem dJ10_putChar_27 : decode cJ10_putChar 27 = .ok (.athrow, 1) := dk_191 (dk_at dksJ10_putChar_1 3 rfl rfl)
theorem dJ10_putChar_28 : decode cJ10_putChar 28 = .ok (.iload_n 1, 1) := dk_27 (dk_at dksJ10_putChar_1 4 rfl rfl)
theorem dJ10_putChar_29 : decode cJ10_putChar 29 = .ok (.iconst 1, 1) := dk_4 (dk_at dksJ10_putChar_1 5 rfl rfl)
theorem dJ10_putChar_30 : decode cJ10_putChar 30 = .ok (.ishl, 1) := dk_120 (dk_at dksJ10_putChar_1 6 rfl rfl)
theorem dJ10_putChar_31 : decode cJ10_putChar 31 = .ok (.istore_n 1, 1) := dk_60 (dk_at dksJ10_putChar_1 7 rfl rfl)
theorem dJ10_putChar_32 : decode cJ10_putChar 32 = .ok (.aload_n 0, 1) := dk_42 (dk_at dksJ10_putChar_1 8 rfl rfl)
theorem dJ10_putChar_33 : decode cJ10_putChar 33 = .ok (.iload_n 1, 1) := dk_27 (dk_at dksJ10_putChar_1 9 rfl rfl)
theorem dJ10_putChar_34 : decode cJ10_putChar 34 = .ok (.iinc 1 1, 3) := dk_132 1 1 (dk_at dksJ10_putChar_1 10 rfl rfl)
theorem dJ10_putChar_37 : decode cJ10_putChar 37 = .ok (.iload_n 2, 1) := dk_28 (dk_at dksJ10_putChar_1 13 rfl rfl)
theorem dJ10_putChar_38 : decode cJ10_putChar 38 = .ok (.getstatic 59, 3) := dk_178 0 59 (dk_at dksJ10_putChar_1 14 rfl rfl)
theorem dJ10_putChar_41 : decode cJ10_putChar 41 = .ok (.ishr, 1) := dk_122 (dk_at dksJ10_putChar_1 17 rfl rfl)
theorem dJ10_putChar_42 : decode cJ10_putChar 42 = .ok (.i2b, 1) := dk_145 (dk_at dksJ10_putChar_1 18 rfl rfl)
theorem dJ10_putChar_43 : decode cJ10_putChar 43 = .ok (.bastore, 1) := dk_84 (dk_at dksJ10_putChar_1 19 rfl rfl)
theorem dJ10_putChar_44 : decode cJ10_putChar 44 = .ok (.aload_n 0, 1) := dk_42 (dk_at dksJ10_putChar_1 20 rfl rfl)
theorem dJ10_putChar_45 : decode cJ10_putChar 45 = .ok (.iload_n 1, 1) := dk_27 (dk_at dksJ10_putChar_1 21 rfl rfl)
theorem dJ10_putChar_46 : decode cJ10_putChar 46 = .ok (.iload_n 2, 1) := dk_28 (dk_at dksJ10_putChar_1 22 rfl rfl)
theorem dJ10_putChar_47 : decode cJ10_putChar 47 = .ok (.getstatic 63, 3) := dk_178 0 63 (dk_at dksJ10_putChar_2 0 rfl rfl)
theorem dJ10_putChar_50 : decode cJ10_putChar 50 = .ok (.ishr, 1) := dk_122 (dk_at dksJ10_putChar_2 3 rfl rfl)
theorem dJ10_putChar_51 : decode cJ10_putChar 51 = .ok (.i2b, 1) := dk_145 (dk_at dksJ10_putChar_2 4 rfl rfl)
theorem dJ10_putChar_52 : decode cJ10_putChar 52 = .ok (.bastore, 1) := dk_84 (dk_at dksJ10_putChar_2 5 rfl rfl)
theorem dJ10_putChar_53 : decode cJ10_putChar 53 = .ok (.return_, 1) := dk_177 (dk_at dksJ10_putChar_2 6 rfl rfl)
abbrev cJ10_inflate : ByteArray := prog_38_method_86_code
def yJ10_inflate : MethodName := ⟨RJ10, "inflate", "([BI[BII)V"⟩
def dkwJ10_inflate_1 : List UInt8 := [132, 1, 1, 51, 17, 0, 255, 126, 184, 0, 111, 132, 5, 1, 167, 255, 228, 177]
abbrev dktJ10_inflate_1 : List UInt8 := dkwJ10_inflate_1 ++ []
def dkwJ10_inflate_0 : List UInt8 := [29, 21, 4, 44, 184, 0, 173, 3, 54, 5, 21, 5, 21, 4, 162, 0, 27, 44, 29, 132, 3, 1, 42, 27]
abbrev dktJ10_inflate_0 : List UInt8 := dkwJ10_inflate_0 ++ dktJ10_inflate_1
theorem dksJ10_inflate_0 : cJ10_inflate.data.toList.drop 0 = dktJ10_inflate_0 := by decide +kernel
theorem dksJ10_inflate_1 : cJ10_inflate.data.toList.drop 24 = dktJ10_inflate_1 := dk_seg dksJ10_inflate_0 24 rfl rfl
theorem dJ10_inflate_0 : decode cJ10_inflate 0 = .ok (.iload_n 3, 1) := dk_29 (dk_at dksJ10_inflate_0 0 rfl rfl)
theorem dJ10_inflate_1 : decode cJ10_inflate 1 = .ok (.iload 4, 2) := dk_21 4 (dk_at dksJ10_inflate_0 1 rfl rfl)
theorem dJ10_inflate_3 : decode cJ10_inflate 3 = .ok (.aload_n 2, 1) := dk_44 (dk_at dksJ10_inflate_0 3 rfl rfl)
theorem dJ10_inflate_4 : decode cJ10_inflate 4 = .ok (.invokestatic 173, 3) := dk_184 0 173 (dk_at dksJ10_inflate_0 4 rfl rfl)
theorem dJ10_inflate_7 : decode cJ10_inflate 7 = .ok (.iconst 0, 1) := dk_3 (dk_at dksJ10_inflate_0 7 rfl rfl)
theorem dJ10_inflate_8 : decode cJ10_inflate 8 = .ok (.istore 5, 2) := dk_54 5 (dk_at dksJ10_inflate_0 8 rfl rfl)
theorem dJ10_inflate_10 : decode cJ10_inflate 10 = .ok (.iload 5, 2) := dk_21 5 (dk_at dksJ10_inflate_0 10 rfl rfl)
theorem dJ10_inflate_12 : decode cJ10_inflate 12 = .ok (.iload 4, 2) := dk_21 4 (dk_at dksJ10_inflate_0 12 rfl rfl)
theorem dJ10_inflate_14 : decode cJ10_inflate 14 = .ok (.if_icmp .ge 27, 3) := dk_162 0 27 (dk_at dksJ10_inflate_0 14 rfl rfl)
theorem dJ10_inflate_17 : decode cJ10_inflate 17 = .ok (.aload_n 2, 1) := dk_44 (dk_at dksJ10_inflate_0 17 rfl rfl)
theorem dJ10_inflate_18 : decode cJ10_inflate 18 = .ok (.iload_n 3, 1) := dk_29 (dk_at dksJ10_inflate_0 18 rfl rfl)
theorem dJ10_inflate_19 : decode cJ10_inflate 19 = .ok (.iinc 3 1, 3) := dk_132 3 1 (dk_at dksJ10_inflate_0 19 rfl rfl)
theorem dJ10_inflate_22 : decode cJ10_inflate 22 = .ok (.aload_n 0, 1) := dk_42 (dk_at dksJ10_inflate_0 22 rfl rfl)
theorem dJ10_inflate_23 : decode cJ10_inflate 23 = .ok (.iload_n 1, 1) := dk_27 (dk_at dksJ10_inflate_0 23 rfl rfl)
theorem dJ10_inflate_24 : decode cJ10_inflate 24 = .ok (.iinc 1 1, 3) := dk_132 1 1 (dk_at dksJ10_inflate_1 0 rfl rfl)
theorem dJ10_inflate_27 : decode cJ10_inflate 27 = .ok (.baload, 1) := dk_51 (dk_at dksJ10_inflate_1 3 rfl rfl)
theorem dJ10_inflate_28 : decode cJ10_inflate 28 = .ok (.sipush 255, 3) := dk_17 0 255 (dk_at dksJ10_inflate_1 4 rfl rfl)
theorem dJ10_inflate_31 : decode cJ10_inflate 31 = .ok (.iand, 1) := dk_126 (dk_at dksJ10_inflate_1 7 rfl rfl)
theorem dJ10_inflate_32 : decode cJ10_inflate 32 = .ok (.invokestatic 111, 3) := dk_184 0 111 (dk_at dksJ10_inflate_1 8 rfl rfl)
theorem dJ10_inflate_35 : decode cJ10_inflate 35 = .ok (.iinc 5 1, 3) := dk_132 5 1 (dk_at dksJ10_inflate_1 11 rfl rfl)
theorem dJ10_inflate_38 : decode cJ10_inflate 38 = .ok (.goto (-28), 3) := dk_167 255 228 (dk_at dksJ10_inflate_1 14 rfl rfl)
theorem dJ10_inflate_41 : decode cJ10_inflate 41 = .ok (.return_, 1) := dk_177 (dk_at dksJ10_inflate_1 17 rfl rfl)
abbrev cJ10_checkBoundsOffCount : ByteArray := prog_38_method_94_code
def yJ10_checkBoundsOffCount : MethodName := ⟨RJ10, "checkBoundsOffCount", "(II[B)V"⟩
def dkwJ10_checkBoundsOffCount_0 : List UInt8 := [26, 27, 44, 184, 0, 48, 184, 1, 163, 87, 177]
abbrev dktJ10_checkBoundsOffCount_0 : List UInt8 := dkwJ10_checkBoundsOffCount_0 ++ []
theorem dksJ10_checkBoundsOffCount_0 : cJ10_checkBoundsOffCount.data.toList.drop 0 = dktJ10_checkBoundsOffCount_0 := by decide +kernel
theorem dJ10_checkBoundsOffCount_0 : decode cJ10_checkBoundsOffCount 0 = .ok (.iload_n 0, 1) := dk_26 (dk_at dksJ10_checkBoundsOffCount_0 0 rfl rfl)
theorem dJ10_checkBoundsOffCount_1 : decode cJ10_checkBoundsOffCount 1 = .ok (.iload_n 1, 1) := dk_27 (dk_at dksJ10_checkBoundsOffCount_0 1 rfl rfl)
theorem dJ10_checkBoundsOffCount_2 : decode cJ10_checkBoundsOffCount 2 = .ok (.aload_n 2, 1) := dk_44 (dk_at dksJ10_checkBoundsOffCount_0 2 rfl rfl)
theorem dJ10_checkBoundsOffCount_3 : decode cJ10_checkBoundsOffCount 3 = .ok (.invokestatic 48, 3) := dk_184 0 48 (dk_at dksJ10_checkBoundsOffCount_0 3 rfl rfl)
theorem dJ10_checkBoundsOffCount_6 : decode cJ10_checkBoundsOffCount 6 = .ok (.invokestatic 419, 3) := dk_184 1 163 (dk_at dksJ10_checkBoundsOffCount_0 6 rfl rfl)
theorem dJ10_checkBoundsOffCount_9 : decode cJ10_checkBoundsOffCount 9 = .ok (.pop, 1) := dk_87 (dk_at dksJ10_checkBoundsOffCount_0 9 rfl rfl)
theorem dJ10_checkBoundsOffCount_10 : decode cJ10_checkBoundsOffCount 10 = .ok (.return_, 1) := dk_177 (dk_at dksJ10_checkBoundsOffCount_0 10 rfl rfl)
abbrev cJ10_getChars : ByteArray := prog_38_method_77_code
def yJ10_getChars : MethodName := ⟨RJ10, "getChars", "(III[B)I"⟩
def dkwJ10_getChars_1 : List UInt8 := [159, 0, 11, 187, 0, 52, 89, 183, 0, 66, 191, 21, 4, 172]
abbrev dktJ10_getChars_1 : List UInt8 := dkwJ10_getChars_1 ++ []
def dkwJ10_getChars_0 : List UInt8 := [27, 28, 45, 184, 0, 96, 26, 28, 45, 184, 1, 137, 54, 4, 178, 0, 44, 154, 0, 17, 27, 21, 4]
abbrev dktJ10_getChars_0 : List UInt8 := dkwJ10_getChars_0 ++ dktJ10_getChars_1
theorem dksJ10_getChars_0 : cJ10_getChars.data.toList.drop 0 = dktJ10_getChars_0 := by decide +kernel
theorem dksJ10_getChars_1 : cJ10_getChars.data.toList.drop 23 = dktJ10_getChars_1 := dk_seg dksJ10_getChars_0 23 rfl rfl
theorem dJ10_getChars_0 : decode cJ10_getChars 0 = .ok (.iload_n 1, 1) := dk_27 (dk_at dksJ10_getChars_0 0 rfl rfl)
theorem dJ10_getChars_1 : decode cJ10_getChars 1 = .ok (.iload_n 2, 1) := dk_28 (dk_at dksJ10_getChars_0 1 rfl rfl)
theorem dJ10_getChars_2 : decode cJ10_getChars 2 = .ok (.aload_n 3, 1) := dk_45 (dk_at dksJ10_getChars_0 2 rfl rfl)
theorem dJ10_getChars_3 : decode cJ10_getChars 3 = .ok (.invokestatic 96, 3) := dk_184 0 96 (dk_at dksJ10_getChars_0 3 rfl rfl)
theorem dJ10_getChars_6 : decode cJ10_getChars 6 = .ok (.iload_n 0, 1) := dk_26 (dk_at dksJ10_getChars_0 6 rfl rfl)
theorem dJ10_getChars_7 : decode cJ10_getChars 7 = .ok (.iload_n 2, 1) := dk_28 (dk_at dksJ10_getChars_0 7 rfl rfl)
theorem dJ10_getChars_8 : decode cJ10_getChars 8 = .ok (.aload_n 3, 1) := dk_45 (dk_at dksJ10_getChars_0 8 rfl rfl)
theorem dJ10_getChars_9 : decode cJ10_getChars 9 = .ok (.invokestatic 393, 3) := dk_184 1 137 (dk_at dksJ10_getChars_0 9 rfl rfl)
theorem dJ10_getChars_12 : decode cJ10_getChars 12 = .ok (.istore 4, 2) := dk_54 4 (dk_at dksJ10_getChars_0 12 rfl rfl)
theorem dJ10_getChars_14 : decode cJ10_getChars 14 = .ok (.getstatic 44, 3) := dk_178 0 44 (dk_at dksJ10_getChars_0 14 rfl rfl)
theorem dJ10_getChars_17 : decode cJ10_getChars 17 = .ok (.ifCond .ne 17, 3) := dk_154 0 17 (dk_at dksJ10_getChars_0 17 rfl rfl)
theorem dJ10_getChars_20 : decode cJ10_getChars 20 = .ok (.iload_n 1, 1) := dk_27 (dk_at dksJ10_getChars_0 20 rfl rfl)
theorem dJ10_getChars_21 : decode cJ10_getChars 21 = .ok (.iload 4, 2) := dk_21 4 (dk_at dksJ10_getChars_0 21 rfl rfl)
theorem dJ10_getChars_23 : decode cJ10_getChars 23 = .ok (.if_icmp .eq 11, 3) := dk_159 0 11 (dk_at dksJ10_getChars_1 0 rfl rfl)
theorem dJ10_getChars_26 : decode cJ10_getChars 26 = .ok (.new 52, 3) := dk_187 0 52 (dk_at dksJ10_getChars_1 3 rfl rfl)
theorem dJ10_getChars_29 : decode cJ10_getChars 29 = .ok (.dup, 1) := dk_89 (dk_at dksJ10_getChars_1 6 rfl rfl)
theorem dJ10_getChars_30 : decode cJ10_getChars 30 = .ok (.invokespecial 66, 3) := dk_183 0 66 (dk_at dksJ10_getChars_1 7 rfl rfl)
theorem dJ10_getChars_33 : decode cJ10_getChars 33 = .ok (.athrow, 1) := dk_191 (dk_at dksJ10_getChars_1 10 rfl rfl)
theorem dJ10_getChars_34 : decode cJ10_getChars 34 = .ok (.iload 4, 2) := dk_21 4 (dk_at dksJ10_getChars_1 11 rfl rfl)
theorem dJ10_getChars_36 : decode cJ10_getChars 36 = .ok (.ireturn, 1) := dk_172 (dk_at dksJ10_getChars_1 13 rfl rfl)
abbrev cJ10_getChars_2 : ByteArray := prog_38_method_89_code
def yJ10_getChars_2 : MethodName := ⟨RJ10, "getChars", "(II[B)I"⟩
def dkwJ10_getChars_2_5 : List UInt8 := [132, 5, 255, 21, 5, 16, 45, 184, 0, 111, 21, 5, 172]
abbrev dktJ10_getChars_2_5 : List UInt8 := dkwJ10_getChars_2_5 ++ []
def dkwJ10_getChars_2_4 : List UInt8 := [162, 0, 18, 44, 132, 5, 255, 21, 5, 178, 1, 151, 26, 116, 51, 184, 0, 111, 21, 6, 153, 0, 14, 44]
abbrev dktJ10_getChars_2_4 : List UInt8 := dkwJ10_getChars_2_4 ++ dktJ10_getChars_2_5
def dkwJ10_getChars_2_3 : List UInt8 := [184, 0, 111, 167, 255, 205, 44, 132, 5, 255, 21, 5, 178, 1, 147, 26, 116, 51, 184, 0, 111, 26, 16, 247]
abbrev dktJ10_getChars_2_3 : List UInt8 := dkwJ10_getChars_2_3 ++ dktJ10_getChars_2_4
def dkwJ10_getChars_2_2 : List UInt8 := [21, 5, 178, 1, 147, 21, 4, 51, 184, 0, 111, 44, 132, 5, 255, 21, 5, 178, 1, 151, 21, 4, 51]
abbrev dktJ10_getChars_2_2 : List UInt8 := dkwJ10_getChars_2_2 ++ dktJ10_getChars_2_3
def dkwJ10_getChars_2_1 : List UInt8 := [16, 156, 163, 0, 51, 26, 16, 100, 108, 62, 29, 16, 100, 104, 26, 100, 54, 4, 29, 59, 44, 132, 5, 255]
abbrev dktJ10_getChars_2_1 : List UInt8 := dkwJ10_getChars_2_1 ++ dktJ10_getChars_2_2
def dkwJ10_getChars_2_0 : List UInt8 := [27, 54, 5, 26, 156, 0, 7, 4, 167, 0, 4, 3, 54, 6, 21, 6, 154, 0, 6, 26, 116, 59, 26]
abbrev dktJ10_getChars_2_0 : List UInt8 := dkwJ10_getChars_2_0 ++ dktJ10_getChars_2_1
theorem dksJ10_getChars_2_0 : cJ10_getChars_2.data.toList.drop 0 = dktJ10_getChars_2_0 := by decide +kernel
theorem dksJ10_getChars_2_1 : cJ10_getChars_2.data.toList.drop 23 = dktJ10_getChars_2_1 := dk_seg dksJ10_getChars_2_0 23 rfl rfl
theorem dksJ10_getChars_2_2 : cJ10_getChars_2.data.toList.drop 47 = dktJ10_getChars_2_2 := dk_seg dksJ10_getChars_2_1 24 rfl rfl
theorem dksJ10_getChars_2_3 : cJ10_getChars_2.data.toList.drop 70 = dktJ10_getChars_2_3 := dk_seg dksJ10_getChars_2_2 23 rfl rfl
theorem dksJ10_getChars_2_4 : cJ10_getChars_2.data.toList.drop 94 = dktJ10_getChars_2_4 := dk_seg dksJ10_getChars_2_3 24 rfl rfl
theorem dksJ10_getChars_2_5 : cJ10_getChars_2.data.toList.drop 118 = dktJ10_getChars_2_5 := dk_seg dksJ10_getChars_2_4 24 rfl rfl
theorem dJ10_getChars_2_0 : decode cJ10_getChars_2 0 = .ok (.iload_n 1, 1) := dk_27 (dk_at dksJ10_getChars_2_0 0 rfl rfl)
theorem dJ10_getChars_2_1 : decode cJ10_getChars_2 1 = .ok (.istore 5, 2) := dk_54 5 (dk_at dksJ10_getChars_2_0 1 rfl rfl)
theorem dJ10_getChars_2_3 : decode cJ10_getChars_2 3 = .ok (.iload_n 0, 1) := dk_26 (dk_at dksJ10_getChars_2_0 3 rfl rfl)
theorem dJ10_getChars_2_4 : decode cJ10_getChars_2 4 = .ok (.ifCond .ge 7, 3) := dk_156 0 7 (dk_at dksJ10_getChars_2_0 4 rfl rfl)
theorem dJ10_getChars_2_7 : decode cJ10_getChars_2 7 = .ok (.iconst 1, 1) := dk_4 (dk_at dksJ10_getChars_2_0 7 rfl rfl)
theorem dJ10_getChars_2_8 : decode cJ10_getChars_2 8 = .ok (.goto 4, 3) := dk_167 0 4 (dk_at dksJ10_getChars_2_0 8 rfl rfl)
theorem dJ10_getChars_2_11 : decode cJ10_getChars_2 11 = .ok (.iconst 0, 1) := dk_3 (dk_at dksJ10_getChars_2_0 11 rfl rfl)
theorem dJ10_getChars_2_12 : decode cJ10_getChars_2 12 = .ok (.istore 6, 2) := dk_54 6 (dk_at dksJ10_getChars_2_0 12 rfl rfl)
theorem dJ10_getChars_2_14 : decode cJ10_getChars_2 14 = .ok (.iload 6, 2) := dk_21 6 (dk_at dksJ10_getChars_2_0 14 rfl rfl)
theorem dJ10_getChars_2_16 : decode cJ10_getChars_2 16 = .ok (.ifCond .ne 6, 3) := dk_154 0 6 (dk_at dksJ10_getChars_2_0 16 rfl rfl)
theorem dJ10_getChars_2_19 : decode cJ10_getChars_2 19 = .ok (.iload_n 0, 1) := dk_26 (dk_at dksJ10_getChars_2_0 19 rfl rfl)
theorem dJ10_getChars_2_20 : decode cJ10_getChars_2 20 = .ok (.ineg, 1) := dk_116 (dk_at dksJ10_getChars_2_0 20 rfl rfl)
theorem dJ10_getChars_2_21 : decode cJ10_getChars_2 21 = .ok (.istore_n 0, 1) := dk_59 (dk_at dksJ10_getChars_2_0 21 rfl rfl)
theorem dJ10_getChars_2_22 : decode cJ10_getChars_2 22 = .ok (.iload_n 0, 1) := dk_26 (dk_at dksJ10_getChars_2_0 22 rfl rfl)
theorem dJ10_getChars_2_23 : decode cJ10_getChars_2 23 = .ok (.bipush (-100), 2) := dk_16 156 (dk_at dksJ10_getChars_2_1 0 rfl rfl)
theorem dJ10_getChars_2_25 : decode cJ10_getChars_2 25 = .ok (.if_icmp .gt 51, 3) := dk_163 0 51 (dk_at dksJ10_getChars_2_1 2 rfl rfl)
theorem dJ10_getChars_2_28 : decode cJ10_getChars_2 28 = .ok (.iload_n 0, 1) := dk_26 (dk_at dksJ10_getChars_2_1 5 rfl rfl)
theorem dJ10_getChars_2_29 : decode cJ10_getChars_2 29 = .ok (.bipush 100, 2) := dk_16 100 (dk_at dksJ10_getChars_2_1 6 rfl rfl)
theorem dJ10_getChars_2_31 : decode cJ10_getChars_2 31 = .ok (.idiv, 1) := dk_108 (dk_at dksJ10_getChars_2_1 8 rfl rfl)
theorem dJ10_getChars_2_32 : decode cJ10_getChars_2 32 = .ok (.istore_n 3, 1) := dk_62 (dk_at dksJ10_getChars_2_1 9 rfl rfl)
theorem dJ10_getChars_2_33 : decode cJ10_getChars_2 33 = .ok (.iload_n 3, 1) := dk_29 (dk_at dksJ10_getChars_2_1 10 rfl rfl)
theorem dJ10_getChars_2_34 : decode cJ10_getChars_2 34 = .ok (.bipush 100, 2) := dk_16 100 (dk_at dksJ10_getChars_2_1 11 rfl rfl)
theorem dJ10_getChars_2_36 : decode cJ10_getChars_2 36 = .ok (.imul, 1) := dk_104 (dk_at dksJ10_getChars_2_1 13 rfl rfl)
theorem dJ10_getChars_2_37 : decode cJ10_getChars_2 37 = .ok (.iload_n 0, 1) := dk_26 (dk_at dksJ10_getChars_2_1 14 rfl rfl)
theorem dJ10_getChars_2_38 : decode cJ10_getChars_2 38 = .ok (.isub, 1) := dk_100 (dk_at dksJ10_getChars_2_1 15 rfl rfl)
theorem dJ10_getChars_2_39 : decode cJ10_getChars_2 39 = .ok (.istore 4, 2) := dk_54 4 (dk_at dksJ10_getChars_2_1 16 rfl rfl)
theorem dJ10_getChars_2_41 : decode cJ10_getChars_2 41 = .ok (.iload_n 3, 1) := dk_29 (dk_at dksJ10_getChars_2_1 18 rfl rfl)
theorem dJ10_getChars_2_42 : decode cJ10_getChars_2 42 = .ok (.istore_n 0, 1) := dk_59 (dk_at dksJ10_getChars_2_1 19 rfl rfl)
theorem dJ10_getChars_2_43 : decode cJ10_getChars_2 43 = .ok (.aload_n 2, 1) := dk_44 (dk_at dksJ10_getChars_2_1 20 rfl rfl)
theorem dJ10_getChars_2_44 : decode cJ10_getChars_2 44 = .ok (.iinc 5 (-1), 3) := dk_132 5 255 (dk_at dksJ10_getChars_2_1 21 rfl rfl)
theorem dJ10_getChars_2_47 : decode cJ10_getChars_2 47 = .ok (.iload 5, 2) := dk_21 5 (dk_at dksJ10_getChars_2_2 0 rfl rfl)
theorem dJ10_getChars_2_49 : decode cJ10_getChars_2 49 = .ok (.getstatic 403, 3) := dk_178 1 147 (dk_at dksJ10_getChars_2_2 2 rfl rfl)
theorem dJ10_getChars_2_52 : decode cJ10_getChars_2 52 = .ok (.iload 4, 2) := dk_21 4 (dk_at dksJ10_getChars_2_2 5 rfl rfl)
theorem dJ10_getChars_2_54 : decode cJ10_getChars_2 54 = .ok (.baload, 1) := dk_51 (dk_at dksJ10_getChars_2_2 7 rfl rfl)
theorem dJ10_getChars_2_55 : decode cJ10_getChars_2 55 = .ok (.invokestatic 111, 3) := dk_184 0 111 (dk_at dksJ10_getChars_2_2 8 rfl rfl)
theorem dJ10_getChars_2_58 : decode cJ10_getChars_2 58 = .ok (.aload_n 2, 1) := dk_44 (dk_at dksJ10_getChars_2_2 11 rfl rfl)
theorem dJ10_getChars_2_59 : decode cJ10_getChars_2 59 = .ok (.iinc 5 (-1), 3) := dk_132 5 255 (dk_at dksJ10_getChars_2_2 12 rfl rfl)
theorem dJ10_getChars_2_62 : decode cJ10_getChars_2 62 = .ok (.iload 5, 2) := dk_21 5 (dk_at dksJ10_getChars_2_2 15 rfl rfl)
theorem dJ10_getChars_2_64 : decode cJ10_getChars_2 64 = .ok (.getstatic 407, 3) := dk_178 1 151 (dk_at dksJ10_getChars_2_2 17 rfl rfl)
theorem dJ10_getChars_2_67 : decode cJ10_getChars_2 67 = .ok (.iload 4, 2) := dk_21 4 (dk_at dksJ10_getChars_2_2 20 rfl rfl)
theorem dJ10_getChars_2_69 : decode cJ10_getChars_2 69 = .ok (.baload, 1) := dk_51 (dk_at dksJ10_getChars_2_2 22 rfl rfl)
theorem dJ10_getChars_2_70 : decode cJ10_getChars_2 70 = .ok (.invokestatic 111, 3) := dk_184 0 111 (dk_at dksJ10_getChars_2_3 0 rfl rfl)
theorem dJ10_getChars_2_73 : decode cJ10_getChars_2 73 = .ok (.goto (-51), 3) := dk_167 255 205 (dk_at dksJ10_getChars_2_3 3 rfl rfl)
theorem dJ10_getChars_2_76 : decode cJ10_getChars_2 76 = .ok (.aload_n 2, 1) := dk_44 (dk_at dksJ10_getChars_2_3 6 rfl rfl)
theorem dJ10_getChars_2_77 : decode cJ10_getChars_2 77 = .ok (.iinc 5 (-1), 3) := dk_132 5 255 (dk_at dksJ10_getChars_2_3 7 rfl rfl)
theorem dJ10_getChars_2_80 : decode cJ10_getChars_2 80 = .ok (.iload 5, 2) := dk_21 5 (dk_at dksJ10_getChars_2_3 10 rfl rfl)
theorem dJ10_getChars_2_82 : decode cJ10_getChars_2 82 = .ok (.getstatic 403, 3) := dk_178 1 147 (dk_at dksJ10_getChars_2_3 12 rfl rfl)
theorem dJ10_getChars_2_85 : decode cJ10_getChars_2 85 = .ok (.iload_n 0, 1) := dk_26 (dk_at dksJ10_getChars_2_3 15 rfl rfl)
theorem dJ10_getChars_2_86 : decode cJ10_getChars_2 86 = .ok (.ineg, 1) := dk_116 (dk_at dksJ10_getChars_2_3 16 rfl rfl)
theorem dJ10_getChars_2_87 : decode cJ10_getChars_2 87 = .ok (.baload, 1) := dk_51 (dk_at dksJ10_getChars_2_3 17 rfl rfl)
theorem dJ10_getChars_2_88 : decode cJ10_getChars_2 88 = .ok (.invokestatic 111, 3) := dk_184 0 111 (dk_at dksJ10_getChars_2_3 18 rfl rfl)
theorem dJ10_getChars_2_91 : decode cJ10_getChars_2 91 = .ok (.iload_n 0, 1) := dk_26 (dk_at dksJ10_getChars_2_3 21 rfl rfl)
theorem dJ10_getChars_2_92 : decode cJ10_getChars_2 92 = .ok (.bipush (-9), 2) := dk_16 247 (dk_at dksJ10_getChars_2_3 22 rfl rfl)
theorem dJ10_getChars_2_94 : decode cJ10_getChars_2 94 = .ok (.if_icmp .ge 18, 3) := dk_162 0 18 (dk_at dksJ10_getChars_2_4 0 rfl rfl)
theorem dJ10_getChars_2_97 : decode cJ10_getChars_2 97 = .ok (.aload_n 2, 1) := dk_44 (dk_at dksJ10_getChars_2_4 3 rfl rfl)
theorem dJ10_getChars_2_98 : decode cJ10_getChars_2 98 = .ok (.iinc 5 (-1), 3) := dk_132 5 255 (dk_at dksJ10_getChars_2_4 4 rfl rfl)
theorem dJ10_getChars_2_101 : decode cJ10_getChars_2 101 = .ok (.iload 5, 2) := dk_21 5 (dk_at dksJ10_getChars_2_4 7 rfl rfl)
theorem dJ10_getChars_2_103 : decode cJ10_getChars_2 103 = .ok (.getstatic 407, 3) := dk_178 1 151 (dk_at dksJ10_getChars_2_4 9 rfl rfl)
theorem dJ10_getChars_2_106 : decode cJ10_getChars_2 106 = .ok (.iload_n 0, 1) := dk_26 (dk_at dksJ10_getChars_2_4 12 rfl rfl)
theorem dJ10_getChars_2_107 : decode cJ10_getChars_2 107 = .ok (.ineg, 1) := dk_116 (dk_at dksJ10_getChars_2_4 13 rfl rfl)
theorem dJ10_getChars_2_108 : decode cJ10_getChars_2 108 = .ok (.baload, 1) := dk_51 (dk_at dksJ10_getChars_2_4 14 rfl rfl)
theorem dJ10_getChars_2_109 : decode cJ10_getChars_2 109 = .ok (.invokestatic 111, 3) := dk_184 0 111 (dk_at dksJ10_getChars_2_4 15 rfl rfl)
theorem dJ10_getChars_2_112 : decode cJ10_getChars_2 112 = .ok (.iload 6, 2) := dk_21 6 (dk_at dksJ10_getChars_2_4 18 rfl rfl)
theorem dJ10_getChars_2_114 : decode cJ10_getChars_2 114 = .ok (.ifCond .eq 14, 3) := dk_153 0 14 (dk_at dksJ10_getChars_2_4 20 rfl rfl)
theorem dJ10_getChars_2_117 : decode cJ10_getChars_2 117 = .ok (.aload_n 2, 1) := dk_44 (dk_at dksJ10_getChars_2_4 23 rfl rfl)
theorem dJ10_getChars_2_118 : decode cJ10_getChars_2 118 = .ok (.iinc 5 (-1), 3) := dk_132 5 255 (dk_at dksJ10_getChars_2_5 0 rfl rfl)
theorem dJ10_getChars_2_121 : decode cJ10_getChars_2 121 = .ok (.iload 5, 2) := dk_21 5 (dk_at dksJ10_getChars_2_5 3 rfl rfl)
theorem dJ10_getChars_2_123 : decode cJ10_getChars_2 123 = .ok (.bipush 45, 2) := dk_16 45 (dk_at dksJ10_getChars_2_5 5 rfl rfl)
theorem dJ10_getChars_2_125 : decode cJ10_getChars_2 125 = .ok (.invokestatic 111, 3) := dk_184 0 111 (dk_at dksJ10_getChars_2_5 7 rfl rfl)
theorem dJ10_getChars_2_128 : decode cJ10_getChars_2 128 = .ok (.iload 5, 2) := dk_21 5 (dk_at dksJ10_getChars_2_5 10 rfl rfl)
theorem dJ10_getChars_2_130 : decode cJ10_getChars_2 130 = .ok (.ireturn, 1) := dk_172 (dk_at dksJ10_getChars_2_5 12 rfl rfl)
abbrev cJ10_compress : ByteArray := prog_38_method_17_code
def yJ10_compress : MethodName := ⟨RJ10, "compress", "([BII)[B"⟩
def dkwJ10_compress_2 : List UInt8 := [25, 5, 3, 45, 3, 28, 184, 0, 123, 28, 159, 0, 6, 25, 5, 176, 45, 176]
abbrev dktJ10_compress_2 : List UInt8 := dkwJ10_compress_2 ++ []
def dkwJ10_compress_1 : List UInt8 := [27, 28, 96, 184, 0, 11, 184, 0, 126, 58, 5, 25, 5, 21, 4, 184, 0, 71, 17, 0, 255, 163, 0, 16]
abbrev dktJ10_compress_1 : List UInt8 := dkwJ10_compress_1 ++ dktJ10_compress_2
def dkwJ10_compress_0 : List UInt8 := [28, 188, 8, 78, 42, 27, 45, 3, 28, 184, 0, 123, 54, 4, 21, 4, 28, 159, 0, 47, 42, 27, 4, 120]
abbrev dktJ10_compress_0 : List UInt8 := dkwJ10_compress_0 ++ dktJ10_compress_1
theorem dksJ10_compress_0 : cJ10_compress.data.toList.drop 0 = dktJ10_compress_0 := by decide +kernel
theorem dksJ10_compress_1 : cJ10_compress.data.toList.drop 24 = dktJ10_compress_1 := dk_seg dksJ10_compress_0 24 rfl rfl
theorem dksJ10_compress_2 : cJ10_compress.data.toList.drop 48 = dktJ10_compress_2 := dk_seg dksJ10_compress_1 24 rfl rfl
theorem dJ10_compress_0 : decode cJ10_compress 0 = .ok (.iload_n 2, 1) := dk_28 (dk_at dksJ10_compress_0 0 rfl rfl)
theorem dJ10_compress_1 : decode cJ10_compress 1 = .ok (.newarray .byte, 2) := dk_188_8 (dk_at dksJ10_compress_0 1 rfl rfl)
theorem dJ10_compress_3 : decode cJ10_compress 3 = .ok (.astore_n 3, 1) := dk_78 (dk_at dksJ10_compress_0 3 rfl rfl)
theorem dJ10_compress_4 : decode cJ10_compress 4 = .ok (.aload_n 0, 1) := dk_42 (dk_at dksJ10_compress_0 4 rfl rfl)
theorem dJ10_compress_5 : decode cJ10_compress 5 = .ok (.iload_n 1, 1) := dk_27 (dk_at dksJ10_compress_0 5 rfl rfl)
theorem dJ10_compress_6 : decode cJ10_compress 6 = .ok (.aload_n 3, 1) := dk_45 (dk_at dksJ10_compress_0 6 rfl rfl)
theorem dJ10_compress_7 : decode cJ10_compress 7 = .ok (.iconst 0, 1) := dk_3 (dk_at dksJ10_compress_0 7 rfl rfl)
theorem dJ10_compress_8 : decode cJ10_compress 8 = .ok (.iload_n 2, 1) := dk_28 (dk_at dksJ10_compress_0 8 rfl rfl)
theorem dJ10_compress_9 : decode cJ10_compress 9 = .ok (.invokestatic 123, 3) := dk_184 0 123 (dk_at dksJ10_compress_0 9 rfl rfl)
theorem dJ10_compress_12 : decode cJ10_compress 12 = .ok (.istore 4, 2) := dk_54 4 (dk_at dksJ10_compress_0 12 rfl rfl)
theorem dJ10_compress_14 : decode cJ10_compress 14 = .ok (.iload 4, 2) := dk_21 4 (dk_at dksJ10_compress_0 14 rfl rfl)
theorem dJ10_compress_16 : decode cJ10_compress 16 = .ok (.iload_n 2, 1) := dk_28 (dk_at dksJ10_compress_0 16 rfl rfl)
theorem dJ10_compress_17 : decode cJ10_compress 17 = .ok (.if_icmp .eq 47, 3) := dk_159 0 47 (dk_at dksJ10_compress_0 17 rfl rfl)
theorem dJ10_compress_20 : decode cJ10_compress 20 = .ok (.aload_n 0, 1) := dk_42 (dk_at dksJ10_compress_0 20 rfl rfl)
theorem dJ10_compress_21 : decode cJ10_compress 21 = .ok (.iload_n 1, 1) := dk_27 (dk_at dksJ10_compress_0 21 rfl rfl)
theorem dJ10_compress_22 : decode cJ10_compress 22 = .ok (.iconst 1, 1) := dk_4 (dk_at dksJ10_compress_0 22 rfl rfl)
theorem dJ10_compress_23 : decode cJ10_compress 23 = .ok (.ishl, 1) := dk_120 (dk_at dksJ10_compress_0 23 rfl rfl)
theorem dJ10_compress_24 : decode cJ10_compress 24 = .ok (.iload_n 1, 1) := dk_27 (dk_at dksJ10_compress_1 0 rfl rfl)
theorem dJ10_compress_25 : decode cJ10_compress 25 = .ok (.iload_n 2, 1) := dk_28 (dk_at dksJ10_compress_1 1 rfl rfl)
theorem dJ10_compress_26 : decode cJ10_compress 26 = .ok (.iadd, 1) := dk_96 (dk_at dksJ10_compress_1 2 rfl rfl)
theorem dJ10_compress_27 : decode cJ10_compress 27 = .ok (.invokestatic 11, 3) := dk_184 0 11 (dk_at dksJ10_compress_1 3 rfl rfl)
theorem dJ10_compress_30 : decode cJ10_compress 30 = .ok (.invokestatic 126, 3) := dk_184 0 126 (dk_at dksJ10_compress_1 6 rfl rfl)
theorem dJ10_compress_33 : decode cJ10_compress 33 = .ok (.astore 5, 2) := dk_58 5 (dk_at dksJ10_compress_1 9 rfl rfl)
theorem dJ10_compress_35 : decode cJ10_compress 35 = .ok (.aload 5, 2) := dk_25 5 (dk_at dksJ10_compress_1 11 rfl rfl)
theorem dJ10_compress_37 : decode cJ10_compress 37 = .ok (.iload 4, 2) := dk_21 4 (dk_at dksJ10_compress_1 13 rfl rfl)
theorem dJ10_compress_39 : decode cJ10_compress 39 = .ok (.invokestatic 71, 3) := dk_184 0 71 (dk_at dksJ10_compress_1 15 rfl rfl)
theorem dJ10_compress_42 : decode cJ10_compress 42 = .ok (.sipush 255, 3) := dk_17 0 255 (dk_at dksJ10_compress_1 18 rfl rfl)
theorem dJ10_compress_45 : decode cJ10_compress 45 = .ok (.if_icmp .gt 16, 3) := dk_163 0 16 (dk_at dksJ10_compress_1 21 rfl rfl)
theorem dJ10_compress_48 : decode cJ10_compress 48 = .ok (.aload 5, 2) := dk_25 5 (dk_at dksJ10_compress_2 0 rfl rfl)
theorem dJ10_compress_50 : decode cJ10_compress 50 = .ok (.iconst 0, 1) := dk_3 (dk_at dksJ10_compress_2 2 rfl rfl)
theorem dJ10_compress_51 : decode cJ10_compress 51 = .ok (.aload_n 3, 1) := dk_45 (dk_at dksJ10_compress_2 3 rfl rfl)
theorem dJ10_compress_52 : decode cJ10_compress 52 = .ok (.iconst 0, 1) := dk_3 (dk_at dksJ10_compress_2 4 rfl rfl)
theorem dJ10_compress_53 : decode cJ10_compress 53 = .ok (.iload_n 2, 1) := dk_28 (dk_at dksJ10_compress_2 5 rfl rfl)
theorem dJ10_compress_54 : decode cJ10_compress 54 = .ok (.invokestatic 123, 3) := dk_184 0 123 (dk_at dksJ10_compress_2 6 rfl rfl)
theorem dJ10_compress_57 : decode cJ10_compress 57 = .ok (.iload_n 2, 1) := dk_28 (dk_at dksJ10_compress_2 9 rfl rfl)
theorem dJ10_compress_58 : decode cJ10_compress 58 = .ok (.if_icmp .eq 6, 3) := dk_159 0 6 (dk_at dksJ10_compress_2 10 rfl rfl)
theorem dJ10_compress_61 : decode cJ10_compress 61 = .ok (.aload 5, 2) := dk_25 5 (dk_at dksJ10_compress_2 13 rfl rfl)
theorem dJ10_compress_63 : decode cJ10_compress 63 = .ok (.areturn, 1) := dk_176 (dk_at dksJ10_compress_2 15 rfl rfl)
theorem dJ10_compress_64 : decode cJ10_compress 64 = .ok (.aload_n 3, 1) := dk_45 (dk_at dksJ10_compress_2 16 rfl rfl)
theorem dJ10_compress_65 : decode cJ10_compress 65 = .ok (.areturn, 1) := dk_176 (dk_at dksJ10_compress_2 17 rfl rfl)
abbrev cJ10_compress_2 : ByteArray := prog_38_method_22_code
def yJ10_compress_2 : MethodName := ⟨RJ10, "compress", "([BI[BII)I"⟩
def dkwJ10_compress_2_2 : List UInt8 := [132, 5, 1, 167, 255, 216, 21, 4, 172]
abbrev dktJ10_compress_2_2 : List UInt8 := dkwJ10_compress_2_2 ++ []
def dkwJ10_compress_2_1 : List UInt8 := [21, 6, 17, 0, 255, 164, 0, 6, 21, 5, 172, 44, 29, 21, 6, 145, 84, 132, 1, 1, 132, 3, 1]
abbrev dktJ10_compress_2_1 : List UInt8 := dkwJ10_compress_2_1 ++ dktJ10_compress_2_2
def dkwJ10_compress_2_0 : List UInt8 := [27, 21, 4, 42, 184, 0, 173, 3, 54, 5, 21, 5, 21, 4, 162, 0, 39, 42, 27, 184, 0, 71, 54, 6]
abbrev dktJ10_compress_2_0 : List UInt8 := dkwJ10_compress_2_0 ++ dktJ10_compress_2_1
theorem dksJ10_compress_2_0 : cJ10_compress_2.data.toList.drop 0 = dktJ10_compress_2_0 := by decide +kernel
theorem dksJ10_compress_2_1 : cJ10_compress_2.data.toList.drop 24 = dktJ10_compress_2_1 := dk_seg dksJ10_compress_2_0 24 rfl rfl
theorem dksJ10_compress_2_2 : cJ10_compress_2.data.toList.drop 47 = dktJ10_compress_2_2 := dk_seg dksJ10_compress_2_1 23 rfl rfl
theorem dJ10_compress_2_0 : decode cJ10_compress_2 0 = .ok (.iload_n 1, 1) := dk_27 (dk_at dksJ10_compress_2_0 0 rfl rfl)
theorem dJ10_compress_2_1 : decode cJ10_compress_2 1 = .ok (.iload 4, 2) := dk_21 4 (dk_at dksJ10_compress_2_0 1 rfl rfl)
theorem dJ10_compress_2_3 : decode cJ10_compress_2 3 = .ok (.aload_n 0, 1) := dk_42 (dk_at dksJ10_compress_2_0 3 rfl rfl)
theorem dJ10_compress_2_4 : decode cJ10_compress_2 4 = .ok (.invokestatic 173, 3) := dk_184 0 173 (dk_at dksJ10_compress_2_0 4 rfl rfl)
theorem dJ10_compress_2_7 : decode cJ10_compress_2 7 = .ok (.iconst 0, 1) := dk_3 (dk_at dksJ10_compress_2_0 7 rfl rfl)
theorem dJ10_compress_2_8 : decode cJ10_compress_2 8 = .ok (.istore 5, 2) := dk_54 5 (dk_at dksJ10_compress_2_0 8 rfl rfl)
theorem dJ10_compress_2_10 : decode cJ10_compress_2 10 = .ok (.iload 5, 2) := dk_21 5 (dk_at dksJ10_compress_2_0 10 rfl rfl)
theorem dJ10_compress_2_12 : decode cJ10_compress_2 12 = .ok (.iload 4, 2) := dk_21 4 (dk_at dksJ10_compress_2_0 12 rfl rfl)
theorem dJ10_compress_2_14 : decode cJ10_compress_2 14 = .ok (.if_icmp .ge 39, 3) := dk_162 0 39 (dk_at dksJ10_compress_2_0 14 rfl rfl)
theorem dJ10_compress_2_17 : decode cJ10_compress_2 17 = .ok (.aload_n 0, 1) := dk_42 (dk_at dksJ10_compress_2_0 17 rfl rfl)
theorem dJ10_compress_2_18 : decode cJ10_compress_2 18 = .ok (.iload_n 1, 1) := dk_27 (dk_at dksJ10_compress_2_0 18 rfl rfl)
theorem dJ10_compress_2_19 : decode cJ10_compress_2 19 = .ok (.invokestatic 71, 3) := dk_184 0 71 (dk_at dksJ10_compress_2_0 19 rfl rfl)
theorem dJ10_compress_2_22 : decode cJ10_compress_2 22 = .ok (.istore 6, 2) := dk_54 6 (dk_at dksJ10_compress_2_0 22 rfl rfl)
theorem dJ10_compress_2_24 : decode cJ10_compress_2 24 = .ok (.iload 6, 2) := dk_21 6 (dk_at dksJ10_compress_2_1 0 rfl rfl)
theorem dJ10_compress_2_26 : decode cJ10_compress_2 26 = .ok (.sipush 255, 3) := dk_17 0 255 (dk_at dksJ10_compress_2_1 2 rfl rfl)
theorem dJ10_compress_2_29 : decode cJ10_compress_2 29 = .ok (.if_icmp .le 6, 3) := dk_164 0 6 (dk_at dksJ10_compress_2_1 5 rfl rfl)
theorem dJ10_compress_2_32 : decode cJ10_compress_2 32 = .ok (.iload 5, 2) := dk_21 5 (dk_at dksJ10_compress_2_1 8 rfl rfl)
theorem dJ10_compress_2_34 : decode cJ10_compress_2 34 = .ok (.ireturn, 1) := dk_172 (dk_at dksJ10_compress_2_1 10 rfl rfl)
theorem dJ10_compress_2_35 : decode cJ10_compress_2 35 = .ok (.aload_n 2, 1) := dk_44 (dk_at dksJ10_compress_2_1 11 rfl rfl)
theorem dJ10_compress_2_36 : decode cJ10_compress_2 36 = .ok (.iload_n 3, 1) := dk_29 (dk_at dksJ10_compress_2_1 12 rfl rfl)
theorem dJ10_compress_2_37 : decode cJ10_compress_2 37 = .ok (.iload 6, 2) := dk_21 6 (dk_at dksJ10_compress_2_1 13 rfl rfl)
theorem dJ10_compress_2_39 : decode cJ10_compress_2 39 = .ok (.i2b, 1) := dk_145 (dk_at dksJ10_compress_2_1 15 rfl rfl)
theorem dJ10_compress_2_40 : decode cJ10_compress_2 40 = .ok (.bastore, 1) := dk_84 (dk_at dksJ10_compress_2_1 16 rfl rfl)
theorem dJ10_compress_2_41 : decode cJ10_compress_2 41 = .ok (.iinc 1 1, 3) := dk_132 1 1 (dk_at dksJ10_compress_2_1 17 rfl rfl)
theorem dJ10_compress_2_44 : decode cJ10_compress_2 44 = .ok (.iinc 3 1, 3) := dk_132 3 1 (dk_at dksJ10_compress_2_1 20 rfl rfl)
theorem dJ10_compress_2_47 : decode cJ10_compress_2 47 = .ok (.iinc 5 1, 3) := dk_132 5 1 (dk_at dksJ10_compress_2_2 0 rfl rfl)
theorem dJ10_compress_2_50 : decode cJ10_compress_2 50 = .ok (.goto (-40), 3) := dk_167 255 216 (dk_at dksJ10_compress_2_2 3 rfl rfl)
theorem dJ10_compress_2_53 : decode cJ10_compress_2 53 = .ok (.iload 4, 2) := dk_21 4 (dk_at dksJ10_compress_2_2 6 rfl rfl)
theorem dJ10_compress_2_55 : decode cJ10_compress_2 55 = .ok (.ireturn, 1) := dk_172 (dk_at dksJ10_compress_2_2 8 rfl rfl)
abbrev cJ10_getChar : ByteArray := prog_38_method_5_code
def yJ10_getChar : MethodName := ⟨RJ10, "getChar", "([BI)C"⟩
def dkwJ10_getChar_2 : List UInt8 := [51, 17, 0, 255, 126, 178, 0, 63, 120, 128, 146, 172]
abbrev dktJ10_getChar_2 : List UInt8 := dkwJ10_getChar_2 ++ []
def dkwJ10_getChar_1 : List UInt8 := [183, 0, 56, 191, 27, 4, 120, 60, 42, 27, 132, 1, 1, 51, 17, 0, 255, 126, 178, 0, 59, 120, 42, 27]
abbrev dktJ10_getChar_1 : List UInt8 := dkwJ10_getChar_1 ++ dktJ10_getChar_2
def dkwJ10_getChar_0 : List UInt8 := [178, 0, 44, 154, 0, 25, 27, 155, 0, 11, 27, 42, 184, 0, 48, 161, 0, 13, 187, 0, 52, 89, 18, 54]
abbrev dktJ10_getChar_0 : List UInt8 := dkwJ10_getChar_0 ++ dktJ10_getChar_1
theorem dksJ10_getChar_0 : cJ10_getChar.data.toList.drop 0 = dktJ10_getChar_0 := by decide +kernel
theorem dksJ10_getChar_1 : cJ10_getChar.data.toList.drop 24 = dktJ10_getChar_1 := dk_seg dksJ10_getChar_0 24 rfl rfl
theorem dksJ10_getChar_2 : cJ10_getChar.data.toList.drop 48 = dktJ10_getChar_2 := dk_seg dksJ10_getChar_1 24 rfl rfl
theorem dJ10_getChar_0 : decode cJ10_getChar 0 = .ok (.getstatic 44, 3) := dk_178 0 44 (dk_at dksJ10_getChar_0 0 rfl rfl)
theorem dJ10_getChar_3 : decode cJ10_getChar 3 = .ok (.ifCond .ne 25, 3) := dk_154 0 25 (dk_at dksJ10_getChar_0 3 rfl rfl)
theorem dJ10_getChar_6 : decode cJ10_getChar 6 = .ok (.iload_n 1, 1) := dk_27 (dk_at dksJ10_getChar_0 6 rfl rfl)
theorem dJ10_getChar_7 : decode cJ10_getChar 7 = .ok (.ifCond .lt 11, 3) := dk_155 0 11 (dk_at dksJ10_getChar_0 7 rfl rfl)
theorem dJ10_getChar_10 : decode cJ10_getChar 10 = .ok (.iload_n 1, 1) := dk_27 (dk_at dksJ10_getChar_0 10 rfl rfl)
theorem dJ10_getChar_11 : decode cJ10_getChar 11 = .ok (.aload_n 0, 1) := dk_42 (dk_at dksJ10_getChar_0 11 rfl rfl)
theorem dJ10_getChar_12 : decode cJ10_getChar 12 = .ok (.invokestatic 48, 3) := dk_184 0 48 (dk_at dksJ10_getChar_0 12 rfl rfl)
theorem dJ10_getChar_15 : decode cJ10_getChar 15 = .ok (.if_icmp .lt 13, 3) := dk_161 0 13 (dk_at dksJ10_getChar_0 15 rfl rfl)
theorem dJ10_getChar_18 : decode cJ10_getChar 18 = .ok (.new 52, 3) := dk_187 0 52 (dk_at dksJ10_getChar_0 18 rfl rfl)
theorem dJ10_getChar_21 : decode cJ10_getChar 21 = .ok (.dup, 1) := dk_89 (dk_at dksJ10_getChar_0 21 rfl rfl)
theorem dJ10_getChar_22 : decode cJ10_getChar 22 = .ok (.ldc 54, 2) := dk_18 54 (dk_at dksJ10_getChar_0 22 rfl rfl)
theorem dJ10_getChar_24 : decode cJ10_getChar 24 = .ok (.invokespecial 56, 3) := dk_183 0 56 (dk_at dksJ10_getChar_1 0 rfl rfl)
theorem dJ10_getChar_27 : decode cJ10_getChar 27 = .ok (.athrow, 1) := dk_191 (dk_at dksJ10_getChar_1 3 rfl rfl)
theorem dJ10_getChar_28 : decode cJ10_getChar 28 = .ok (.iload_n 1, 1) := dk_27 (dk_at dksJ10_getChar_1 4 rfl rfl)
theorem dJ10_getChar_29 : decode cJ10_getChar 29 = .ok (.iconst 1, 1) := dk_4 (dk_at dksJ10_getChar_1 5 rfl rfl)
theorem dJ10_getChar_30 : decode cJ10_getChar 30 = .ok (.ishl, 1) := dk_120 (dk_at dksJ10_getChar_1 6 rfl rfl)
theorem dJ10_getChar_31 : decode cJ10_getChar 31 = .ok (.istore_n 1, 1) := dk_60 (dk_at dksJ10_getChar_1 7 rfl rfl)
theorem dJ10_getChar_32 : decode cJ10_getChar 32 = .ok (.aload_n 0, 1) := dk_42 (dk_at dksJ10_getChar_1 8 rfl rfl)
theorem dJ10_getChar_33 : decode cJ10_getChar 33 = .ok (.iload_n 1, 1) := dk_27 (dk_at dksJ10_getChar_1 9 rfl rfl)
theorem dJ10_getChar_34 : decode cJ10_getChar 34 = .ok (.iinc 1 1, 3) := dk_132 1 1 (dk_at dksJ10_getChar_1 10 rfl rfl)
theorem dJ10_getChar_37 : decode cJ10_getChar 37 = .ok (.baload, 1) := dk_51 (dk_at dksJ10_getChar_1 13 rfl rfl)
theorem dJ10_getChar_38 : decode cJ10_getChar 38 = .ok (.sipush 255, 3) := dk_17 0 255 (dk_at dksJ10_getChar_1 14 rfl rfl)
theorem dJ10_getChar_41 : decode cJ10_getChar 41 = .ok (.iand, 1) := dk_126 (dk_at dksJ10_getChar_1 17 rfl rfl)
theorem dJ10_getChar_42 : decode cJ10_getChar 42 = .ok (.getstatic 59, 3) := dk_178 0 59 (dk_at dksJ10_getChar_1 18 rfl rfl)
theorem dJ10_getChar_45 : decode cJ10_getChar 45 = .ok (.ishl, 1) := dk_120 (dk_at dksJ10_getChar_1 21 rfl rfl)
theorem dJ10_getChar_46 : decode cJ10_getChar 46 = .ok (.aload_n 0, 1) := dk_42 (dk_at dksJ10_getChar_1 22 rfl rfl)
theorem dJ10_getChar_47 : decode cJ10_getChar 47 = .ok (.iload_n 1, 1) := dk_27 (dk_at dksJ10_getChar_1 23 rfl rfl)
theorem dJ10_getChar_48 : decode cJ10_getChar 48 = .ok (.baload, 1) := dk_51 (dk_at dksJ10_getChar_2 0 rfl rfl)
theorem dJ10_getChar_49 : decode cJ10_getChar 49 = .ok (.sipush 255, 3) := dk_17 0 255 (dk_at dksJ10_getChar_2 1 rfl rfl)
theorem dJ10_getChar_52 : decode cJ10_getChar 52 = .ok (.iand, 1) := dk_126 (dk_at dksJ10_getChar_2 4 rfl rfl)
theorem dJ10_getChar_53 : decode cJ10_getChar 53 = .ok (.getstatic 63, 3) := dk_178 0 63 (dk_at dksJ10_getChar_2 5 rfl rfl)
theorem dJ10_getChar_56 : decode cJ10_getChar 56 = .ok (.ishl, 1) := dk_120 (dk_at dksJ10_getChar_2 8 rfl rfl)
theorem dJ10_getChar_57 : decode cJ10_getChar 57 = .ok (.ior, 1) := dk_128 (dk_at dksJ10_getChar_2 9 rfl rfl)
theorem dJ10_getChar_58 : decode cJ10_getChar 58 = .ok (.i2c, 1) := dk_146 (dk_at dksJ10_getChar_2 10 rfl rfl)
theorem dJ10_getChar_59 : decode cJ10_getChar 59 = .ok (.ireturn, 1) := dk_172 (dk_at dksJ10_getChar_2 11 rfl rfl)
abbrev cJ10_coderFromArrayLen : ByteArray := prog_38_method_15_code
def yJ10_coderFromArrayLen : MethodName := ⟨RJ10, "coderFromArrayLen", "([BI)B"⟩
def dkwJ10_coderFromArrayLen_0 : List UInt8 := [27, 42, 190, 100, 16, 31, 124, 145, 172]
abbrev dktJ10_coderFromArrayLen_0 : List UInt8 := dkwJ10_coderFromArrayLen_0 ++ []
theorem dksJ10_coderFromArrayLen_0 : cJ10_coderFromArrayLen.data.toList.drop 0 = dktJ10_coderFromArrayLen_0 := by decide +kernel
theorem dJ10_coderFromArrayLen_0 : decode cJ10_coderFromArrayLen 0 = .ok (.iload_n 1, 1) := dk_27 (dk_at dksJ10_coderFromArrayLen_0 0 rfl rfl)
theorem dJ10_coderFromArrayLen_1 : decode cJ10_coderFromArrayLen 1 = .ok (.aload_n 0, 1) := dk_42 (dk_at dksJ10_coderFromArrayLen_0 1 rfl rfl)
theorem dJ10_coderFromArrayLen_2 : decode cJ10_coderFromArrayLen 2 = .ok (.arraylength, 1) := dk_190 (dk_at dksJ10_coderFromArrayLen_0 2 rfl rfl)
theorem dJ10_coderFromArrayLen_3 : decode cJ10_coderFromArrayLen 3 = .ok (.isub, 1) := dk_100 (dk_at dksJ10_coderFromArrayLen_0 3 rfl rfl)
theorem dJ10_coderFromArrayLen_4 : decode cJ10_coderFromArrayLen 4 = .ok (.bipush 31, 2) := dk_16 31 (dk_at dksJ10_coderFromArrayLen_0 4 rfl rfl)
theorem dJ10_coderFromArrayLen_6 : decode cJ10_coderFromArrayLen 6 = .ok (.iushr, 1) := dk_124 (dk_at dksJ10_coderFromArrayLen_0 6 rfl rfl)
theorem dJ10_coderFromArrayLen_7 : decode cJ10_coderFromArrayLen 7 = .ok (.i2b, 1) := dk_145 (dk_at dksJ10_coderFromArrayLen_0 7 rfl rfl)
theorem dJ10_coderFromArrayLen_8 : decode cJ10_coderFromArrayLen 8 = .ok (.ireturn, 1) := dk_172 (dk_at dksJ10_coderFromArrayLen_0 8 rfl rfl)
abbrev cJ10_putCharSB : ByteArray := prog_38_method_71_code
def yJ10_putCharSB : MethodName := ⟨RJ10, "putCharSB", "([BII)V"⟩
def dkwJ10_putCharSB_0 : List UInt8 := [27, 42, 184, 0, 67, 42, 27, 28, 184, 0, 111, 177]
abbrev dktJ10_putCharSB_0 : List UInt8 := dkwJ10_putCharSB_0 ++ []
theorem dksJ10_putCharSB_0 : cJ10_putCharSB.data.toList.drop 0 = dktJ10_putCharSB_0 := by decide +kernel
theorem dJ10_putCharSB_0 : decode cJ10_putCharSB 0 = .ok (.iload_n 1, 1) := dk_27 (dk_at dksJ10_putCharSB_0 0 rfl rfl)
theorem dJ10_putCharSB_1 : decode cJ10_putCharSB 1 = .ok (.aload_n 0, 1) := dk_42 (dk_at dksJ10_putCharSB_0 1 rfl rfl)
theorem dJ10_putCharSB_2 : decode cJ10_putCharSB 2 = .ok (.invokestatic 67, 3) := dk_184 0 67 (dk_at dksJ10_putCharSB_0 2 rfl rfl)
theorem dJ10_putCharSB_5 : decode cJ10_putCharSB 5 = .ok (.aload_n 0, 1) := dk_42 (dk_at dksJ10_putCharSB_0 5 rfl rfl)
theorem dJ10_putCharSB_6 : decode cJ10_putCharSB 6 = .ok (.iload_n 1, 1) := dk_27 (dk_at dksJ10_putCharSB_0 6 rfl rfl)
theorem dJ10_putCharSB_7 : decode cJ10_putCharSB 7 = .ok (.iload_n 2, 1) := dk_28 (dk_at dksJ10_putCharSB_0 7 rfl rfl)
theorem dJ10_putCharSB_8 : decode cJ10_putCharSB 8 = .ok (.invokestatic 111, 3) := dk_184 0 111 (dk_at dksJ10_putCharSB_0 8 rfl rfl)
theorem dJ10_putCharSB_11 : decode cJ10_putCharSB 11 = .ok (.return_, 1) := dk_177 (dk_at dksJ10_putCharSB_0 11 rfl rfl)
abbrev cJ10_checkIndex : ByteArray := prog_38_method_91_code
def yJ10_checkIndex : MethodName := ⟨RJ10, "checkIndex", "(I[B)V"⟩
def dkwJ10_checkIndex_0 : List UInt8 := [26, 43, 184, 0, 48, 184, 1, 158, 177]
abbrev dktJ10_checkIndex_0 : List UInt8 := dkwJ10_checkIndex_0 ++ []
theorem dksJ10_checkIndex_0 : cJ10_checkIndex.data.toList.drop 0 = dktJ10_checkIndex_0 := by decide +kernel
theorem dJ10_checkIndex_0 : decode cJ10_checkIndex 0 = .ok (.iload_n 0, 1) := dk_26 (dk_at dksJ10_checkIndex_0 0 rfl rfl)
theorem dJ10_checkIndex_1 : decode cJ10_checkIndex 1 = .ok (.aload_n 1, 1) := dk_43 (dk_at dksJ10_checkIndex_0 1 rfl rfl)
theorem dJ10_checkIndex_2 : decode cJ10_checkIndex 2 = .ok (.invokestatic 48, 3) := dk_184 0 48 (dk_at dksJ10_checkIndex_0 2 rfl rfl)
theorem dJ10_checkIndex_5 : decode cJ10_checkIndex 5 = .ok (.invokestatic 414, 3) := dk_184 1 158 (dk_at dksJ10_checkIndex_0 5 rfl rfl)
theorem dJ10_checkIndex_8 : decode cJ10_checkIndex 8 = .ok (.return_, 1) := dk_177 (dk_at dksJ10_checkIndex_0 8 rfl rfl)
abbrev cJ10_toBytes : ByteArray := prog_38_method_24_code
def yJ10_toBytes : MethodName := ⟨RJ10, "toBytes", "(C)[B"⟩
def dkwJ10_toBytes_0 : List UInt8 := [5, 188, 8, 76, 43, 3, 26, 184, 0, 111, 43, 176]
abbrev dktJ10_toBytes_0 : List UInt8 := dkwJ10_toBytes_0 ++ []
theorem dksJ10_toBytes_0 : cJ10_toBytes.data.toList.drop 0 = dktJ10_toBytes_0 := by decide +kernel
theorem dJ10_toBytes_0 : decode cJ10_toBytes 0 = .ok (.iconst 2, 1) := dk_5 (dk_at dksJ10_toBytes_0 0 rfl rfl)
theorem dJ10_toBytes_1 : decode cJ10_toBytes 1 = .ok (.newarray .byte, 2) := dk_188_8 (dk_at dksJ10_toBytes_0 1 rfl rfl)
theorem dJ10_toBytes_3 : decode cJ10_toBytes 3 = .ok (.astore_n 1, 1) := dk_76 (dk_at dksJ10_toBytes_0 3 rfl rfl)
theorem dJ10_toBytes_4 : decode cJ10_toBytes 4 = .ok (.aload_n 1, 1) := dk_43 (dk_at dksJ10_toBytes_0 4 rfl rfl)
theorem dJ10_toBytes_5 : decode cJ10_toBytes 5 = .ok (.iconst 0, 1) := dk_3 (dk_at dksJ10_toBytes_0 5 rfl rfl)
theorem dJ10_toBytes_6 : decode cJ10_toBytes 6 = .ok (.iload_n 0, 1) := dk_26 (dk_at dksJ10_toBytes_0 6 rfl rfl)
theorem dJ10_toBytes_7 : decode cJ10_toBytes 7 = .ok (.invokestatic 111, 3) := dk_184 0 111 (dk_at dksJ10_toBytes_0 7 rfl rfl)
theorem dJ10_toBytes_10 : decode cJ10_toBytes 10 = .ok (.aload_n 1, 1) := dk_43 (dk_at dksJ10_toBytes_0 10 rfl rfl)
theorem dJ10_toBytes_11 : decode cJ10_toBytes 11 = .ok (.areturn, 1) := dk_176 (dk_at dksJ10_toBytes_0 11 rfl rfl)
abbrev cJ10_charAt : ByteArray := prog_38_method_83_code
def yJ10_charAt : MethodName := ⟨RJ10, "charAt", "([BI)C"⟩
def dkwJ10_charAt_0 : List UInt8 := [27, 42, 184, 0, 67, 42, 27, 184, 0, 71, 172]
abbrev dktJ10_charAt_0 : List UInt8 := dkwJ10_charAt_0 ++ []
theorem dksJ10_charAt_0 : cJ10_charAt.data.toList.drop 0 = dktJ10_charAt_0 := by decide +kernel
theorem dJ10_charAt_0 : decode cJ10_charAt 0 = .ok (.iload_n 1, 1) := dk_27 (dk_at dksJ10_charAt_0 0 rfl rfl)
theorem dJ10_charAt_1 : decode cJ10_charAt 1 = .ok (.aload_n 0, 1) := dk_42 (dk_at dksJ10_charAt_0 1 rfl rfl)
theorem dJ10_charAt_2 : decode cJ10_charAt 2 = .ok (.invokestatic 67, 3) := dk_184 0 67 (dk_at dksJ10_charAt_0 2 rfl rfl)
theorem dJ10_charAt_5 : decode cJ10_charAt 5 = .ok (.aload_n 0, 1) := dk_42 (dk_at dksJ10_charAt_0 5 rfl rfl)
theorem dJ10_charAt_6 : decode cJ10_charAt 6 = .ok (.iload_n 1, 1) := dk_27 (dk_at dksJ10_charAt_0 6 rfl rfl)
theorem dJ10_charAt_7 : decode cJ10_charAt 7 = .ok (.invokestatic 71, 3) := dk_184 0 71 (dk_at dksJ10_charAt_0 7 rfl rfl)
theorem dJ10_charAt_10 : decode cJ10_charAt 10 = .ok (.ireturn, 1) := dk_172 (dk_at dksJ10_charAt_0 10 rfl rfl)
theorem q118 : (Jvm.Cond.initialized "java/lang/StringUTF16") ∈ lw_all := lw_g (lw_at lw_m1 13 rfl) rfl
theorem q230 : (Jvm.Cond.static ({ cls := "java/lang/StringUTF16", name := "newBytesFor", desc := "(I)[B" } : Jvm.MethodName)) ∈ lw_all := lw_g (lw_at lw_m1 125 rfl) rfl
theorem q231 : (Jvm.Cond.code ({ cls := "java/lang/StringUTF16", name := "newBytesFor", desc := "(I)[B" } : Jvm.MethodName) prog_38_method_2_code (1 : Nat) (Option.some (Jvm.ClassFile.FieldType.array Jvm.ClassFile.FieldType.byte))) ∈ lw_all := lw_g (lw_at lw_m1 126 rfl) rfl
theorem q232 : (Jvm.Cond.methodLink "java/lang/StringUTF16" (11 : Nat) ({ cls := "java/lang/StringUTF16", name := "newBytesLength", desc := "(I)I" } : Jvm.MethodName)) ∈ lw_all := lw_g (lw_at lw_m1 127 rfl) rfl
theorem q233 : (Jvm.Cond.static ({ cls := "java/lang/StringUTF16", name := "newBytesLength", desc := "(I)I" } : Jvm.MethodName)) ∈ lw_all := lw_g (lw_at lw_m1 128 rfl) rfl
theorem q234 : (Jvm.Cond.code ({ cls := "java/lang/StringUTF16", name := "newBytesLength", desc := "(I)I" } : Jvm.MethodName) prog_38_method_3_code (1 : Nat) (Option.some Jvm.ClassFile.FieldType.int)) ∈ lw_all := lw_g (lw_at lw_m1 129 rfl) rfl
theorem q235 : (Jvm.Cond.constant "java/lang/StringUTF16" (20 : Nat) (1073741823 : Int32)) ∈ lw_all := lw_g (lw_at lw_m1 130 rfl) rfl
theorem q304 : (Jvm.Cond.static ({ cls := "java/lang/StringUTF16", name := "putCharsAt", desc := "([BICCCC)I" } : Jvm.MethodName)) ∈ lw_all := lw_g (lw_at lw_m1 199 rfl) rfl
theorem q305 : (Jvm.Cond.code ({ cls := "java/lang/StringUTF16", name := "putCharsAt", desc := "([BICCCC)I" } : Jvm.MethodName) prog_38_method_81_code (7 : Nat) (Option.some Jvm.ClassFile.FieldType.int)) ∈ lw_all := lw_g (lw_at lw_m1 200 rfl) rfl
theorem q306 : (Jvm.Cond.methodLink "java/lang/StringUTF16" (96 : Nat) ({ cls := "java/lang/StringUTF16", name := "checkBoundsBeginEnd", desc := "(II[B)V" } : Jvm.MethodName)) ∈ lw_all := lw_g (lw_at lw_m1 201 rfl) rfl
theorem q307 : (Jvm.Cond.static ({ cls := "java/lang/StringUTF16", name := "checkBoundsBeginEnd", desc := "(II[B)V" } : Jvm.MethodName)) ∈ lw_all := lw_g (lw_at lw_m1 202 rfl) rfl
theorem q308 : (Jvm.Cond.code ({ cls := "java/lang/StringUTF16", name := "checkBoundsBeginEnd", desc := "(II[B)V" } : Jvm.MethodName) prog_38_method_93_code (3 : Nat) (Option.none : Option Jvm.ClassFile.FieldType)) ∈ lw_all := lw_g (lw_at lw_m1 203 rfl) rfl
theorem q309 : (Jvm.Cond.methodLink "java/lang/StringUTF16" (48 : Nat) ({ cls := "java/lang/StringUTF16", name := "length", desc := "([B)I" } : Jvm.MethodName)) ∈ lw_all := lw_g (lw_at lw_m1 204 rfl) rfl
theorem q310 : (Jvm.Cond.static ({ cls := "java/lang/StringUTF16", name := "length", desc := "([B)I" } : Jvm.MethodName)) ∈ lw_all := lw_g (lw_at lw_m1 205 rfl) rfl
theorem q311 : (Jvm.Cond.code ({ cls := "java/lang/StringUTF16", name := "length", desc := "([B)I" } : Jvm.MethodName) prog_38_method_6_code (1 : Nat) (Option.some Jvm.ClassFile.FieldType.int)) ∈ lw_all := lw_g (lw_at lw_m1 206 rfl) rfl
theorem q312 : (Jvm.Cond.methodLink "java/lang/StringUTF16" (241 : Nat) ({ cls := "java/lang/String", name := "checkBoundsBeginEnd", desc := "(III)V" } : Jvm.MethodName)) ∈ lw_all := lw_g (lw_at lw_m1 207 rfl) rfl
theorem q320 : (Jvm.Cond.methodLink "java/lang/StringUTF16" (111 : Nat) ({ cls := "java/lang/StringUTF16", name := "putChar", desc := "([BII)V" } : Jvm.MethodName)) ∈ lw_all := lw_g (lw_at lw_m1 215 rfl) rfl
theorem q321 : (Jvm.Cond.static ({ cls := "java/lang/StringUTF16", name := "putChar", desc := "([BII)V" } : Jvm.MethodName)) ∈ lw_all := lw_g (lw_at lw_m1 216 rfl) rfl
theorem q322 : (Jvm.Cond.code ({ cls := "java/lang/StringUTF16", name := "putChar", desc := "([BII)V" } : Jvm.MethodName) prog_38_method_4_code (3 : Nat) (Option.none : Option Jvm.ClassFile.FieldType)) ∈ lw_all := lw_g (lw_at lw_m1 217 rfl) rfl
theorem q323 : (Jvm.Cond.fieldLink "java/lang/StringUTF16" (44 : Nat) "java/lang/StringUTF16" "$assertionsDisabled" "Z") ∈ lw_all := lw_g (lw_at lw_m1 218 rfl) rfl
theorem q324 : (Jvm.Cond.laysStatic "java/lang/StringUTF16" "$assertionsDisabled" "Z") ∈ lw_tbl := lw_at lw_m1 219 rfl
theorem q325 : (Jvm.Cond.fieldLink "java/lang/StringUTF16" (59 : Nat) "java/lang/StringUTF16" "HI_BYTE_SHIFT" "I") ∈ lw_all := lw_g (lw_at lw_m1 220 rfl) rfl
theorem q326 : (Jvm.Cond.laysStatic "java/lang/StringUTF16" "HI_BYTE_SHIFT" "I") ∈ lw_tbl := lw_at lw_m1 221 rfl
theorem q327 : (Jvm.Cond.fieldLink "java/lang/StringUTF16" (63 : Nat) "java/lang/StringUTF16" "LO_BYTE_SHIFT" "I") ∈ lw_all := lw_g (lw_at lw_m1 222 rfl) rfl
theorem q328 : (Jvm.Cond.laysStatic "java/lang/StringUTF16" "LO_BYTE_SHIFT" "I") ∈ lw_tbl := lw_at lw_m1 223 rfl
theorem q355 : (Jvm.Cond.static ({ cls := "java/lang/StringUTF16", name := "inflate", desc := "([BI[BII)V" } : Jvm.MethodName)) ∈ lw_all := lw_g (lw_at lw_m2 10 rfl) rfl
theorem q356 : (Jvm.Cond.code ({ cls := "java/lang/StringUTF16", name := "inflate", desc := "([BI[BII)V" } : Jvm.MethodName) prog_38_method_86_code (6 : Nat) (Option.none : Option Jvm.ClassFile.FieldType)) ∈ lw_all := lw_g (lw_at lw_m2 11 rfl) rfl
theorem q357 : (Jvm.Cond.methodLink "java/lang/StringUTF16" (173 : Nat) ({ cls := "java/lang/StringUTF16", name := "checkBoundsOffCount", desc := "(II[B)V" } : Jvm.MethodName)) ∈ lw_all := lw_g (lw_at lw_m2 12 rfl) rfl
theorem q358 : (Jvm.Cond.static ({ cls := "java/lang/StringUTF16", name := "checkBoundsOffCount", desc := "(II[B)V" } : Jvm.MethodName)) ∈ lw_all := lw_g (lw_at lw_m2 13 rfl) rfl
theorem q359 : (Jvm.Cond.code ({ cls := "java/lang/StringUTF16", name := "checkBoundsOffCount", desc := "(II[B)V" } : Jvm.MethodName) prog_38_method_94_code (3 : Nat) (Option.none : Option Jvm.ClassFile.FieldType)) ∈ lw_all := lw_g (lw_at lw_m2 14 rfl) rfl
theorem q360 : (Jvm.Cond.methodLink "java/lang/StringUTF16" (419 : Nat) ({ cls := "java/lang/String", name := "checkBoundsOffCount", desc := "(III)I" } : Jvm.MethodName)) ∈ lw_all := lw_g (lw_at lw_m2 15 rfl) rfl
theorem q390 : (Jvm.Cond.static ({ cls := "java/lang/StringUTF16", name := "getChars", desc := "(III[B)I" } : Jvm.MethodName)) ∈ lw_all := lw_g (lw_at lw_m2 45 rfl) rfl
theorem q391 : (Jvm.Cond.code ({ cls := "java/lang/StringUTF16", name := "getChars", desc := "(III[B)I" } : Jvm.MethodName) prog_38_method_77_code (5 : Nat) (Option.some Jvm.ClassFile.FieldType.int)) ∈ lw_all := lw_g (lw_at lw_m2 46 rfl) rfl
theorem q392 : (Jvm.Cond.methodLink "java/lang/StringUTF16" (393 : Nat) ({ cls := "java/lang/StringUTF16", name := "getChars", desc := "(II[B)I" } : Jvm.MethodName)) ∈ lw_all := lw_g (lw_at lw_m2 47 rfl) rfl
theorem q393 : (Jvm.Cond.static ({ cls := "java/lang/StringUTF16", name := "getChars", desc := "(II[B)I" } : Jvm.MethodName)) ∈ lw_all := lw_g (lw_at lw_m2 48 rfl) rfl
theorem q394 : (Jvm.Cond.code ({ cls := "java/lang/StringUTF16", name := "getChars", desc := "(II[B)I" } : Jvm.MethodName) prog_38_method_89_code (7 : Nat) (Option.some Jvm.ClassFile.FieldType.int)) ∈ lw_all := lw_g (lw_at lw_m2 49 rfl) rfl
theorem q395 : (Jvm.Cond.fieldLink "java/lang/StringUTF16" (403 : Nat) "java/lang/Integer" "DigitOnes" "[B") ∈ lw_all := lw_g (lw_at lw_m2 50 rfl) rfl
theorem q396 : (Jvm.Cond.fieldLink "java/lang/StringUTF16" (407 : Nat) "java/lang/Integer" "DigitTens" "[B") ∈ lw_all := lw_g (lw_at lw_m2 51 rfl) rfl
theorem q466 : (Jvm.Cond.static ({ cls := "java/lang/StringUTF16", name := "compress", desc := "([BII)[B" } : Jvm.MethodName)) ∈ lw_all := lw_g (lw_at lw_m2 121 rfl) rfl
theorem q467 : (Jvm.Cond.code ({ cls := "java/lang/StringUTF16", name := "compress", desc := "([BII)[B" } : Jvm.MethodName) prog_38_method_17_code (6 : Nat) (Option.some (Jvm.ClassFile.FieldType.array Jvm.ClassFile.FieldType.byte))) ∈ lw_all := lw_g (lw_at lw_m2 122 rfl) rfl
theorem q468 : (Jvm.Cond.methodLink "java/lang/StringUTF16" (123 : Nat) ({ cls := "java/lang/StringUTF16", name := "compress", desc := "([BI[BII)I" } : Jvm.MethodName)) ∈ lw_all := lw_g (lw_at lw_m2 123 rfl) rfl
theorem q469 : (Jvm.Cond.static ({ cls := "java/lang/StringUTF16", name := "compress", desc := "([BI[BII)I" } : Jvm.MethodName)) ∈ lw_all := lw_g (lw_at lw_m2 124 rfl) rfl
theorem q470 : (Jvm.Cond.code ({ cls := "java/lang/StringUTF16", name := "compress", desc := "([BI[BII)I" } : Jvm.MethodName) prog_38_method_22_code (7 : Nat) (Option.some Jvm.ClassFile.FieldType.int)) ∈ lw_all := lw_g (lw_at lw_m2 125 rfl) rfl
theorem q471 : (Jvm.Cond.methodLink "java/lang/StringUTF16" (71 : Nat) ({ cls := "java/lang/StringUTF16", name := "getChar", desc := "([BI)C" } : Jvm.MethodName)) ∈ lw_all := lw_g (lw_at lw_m2 126 rfl) rfl
theorem q472 : (Jvm.Cond.static ({ cls := "java/lang/StringUTF16", name := "getChar", desc := "([BI)C" } : Jvm.MethodName)) ∈ lw_all := lw_g (lw_at lw_m2 127 rfl) rfl
theorem q473 : (Jvm.Cond.code ({ cls := "java/lang/StringUTF16", name := "getChar", desc := "([BI)C" } : Jvm.MethodName) prog_38_method_5_code (2 : Nat) (Option.some Jvm.ClassFile.FieldType.char)) ∈ lw_all := lw_g (lw_at lw_m2 128 rfl) rfl
theorem q474 : (Jvm.Cond.methodLink "java/lang/StringUTF16" (126 : Nat) ({ cls := "java/util/Arrays", name := "copyOfRange", desc := "([BII)[B" } : Jvm.MethodName)) ∈ lw_all := lw_g (lw_at lw_m2 129 rfl) rfl
theorem q476 : (Jvm.Cond.static ({ cls := "java/lang/StringUTF16", name := "coderFromArrayLen", desc := "([BI)B" } : Jvm.MethodName)) ∈ lw_all := lw_g (lw_at lw_m2 131 rfl) rfl
theorem q477 : (Jvm.Cond.code ({ cls := "java/lang/StringUTF16", name := "coderFromArrayLen", desc := "([BI)B" } : Jvm.MethodName) prog_38_method_15_code (2 : Nat) (Option.some Jvm.ClassFile.FieldType.byte)) ∈ lw_all := lw_g (lw_at lw_m2 132 rfl) rfl
theorem q944 : (Jvm.Cond.static ({ cls := "java/lang/StringUTF16", name := "putCharSB", desc := "([BII)V" } : Jvm.MethodName)) ∈ lw_all := lw_g (lw_at lw_m4 119 rfl) rfl
theorem q945 : (Jvm.Cond.code ({ cls := "java/lang/StringUTF16", name := "putCharSB", desc := "([BII)V" } : Jvm.MethodName) prog_38_method_71_code (3 : Nat) (Option.none : Option Jvm.ClassFile.FieldType)) ∈ lw_all := lw_g (lw_at lw_m4 120 rfl) rfl
theorem q946 : (Jvm.Cond.methodLink "java/lang/StringUTF16" (67 : Nat) ({ cls := "java/lang/StringUTF16", name := "checkIndex", desc := "(I[B)V" } : Jvm.MethodName)) ∈ lw_all := lw_g (lw_at lw_m4 121 rfl) rfl
theorem q947 : (Jvm.Cond.static ({ cls := "java/lang/StringUTF16", name := "checkIndex", desc := "(I[B)V" } : Jvm.MethodName)) ∈ lw_all := lw_g (lw_at lw_m4 122 rfl) rfl
theorem q948 : (Jvm.Cond.code ({ cls := "java/lang/StringUTF16", name := "checkIndex", desc := "(I[B)V" } : Jvm.MethodName) prog_38_method_91_code (2 : Nat) (Option.none : Option Jvm.ClassFile.FieldType)) ∈ lw_all := lw_g (lw_at lw_m4 123 rfl) rfl
theorem q949 : (Jvm.Cond.methodLink "java/lang/StringUTF16" (414 : Nat) ({ cls := "java/lang/String", name := "checkIndex", desc := "(II)V" } : Jvm.MethodName)) ∈ lw_all := lw_g (lw_at lw_m4 124 rfl) rfl
theorem q980 : (Jvm.Cond.static ({ cls := "java/lang/StringUTF16", name := "toBytes", desc := "(C)[B" } : Jvm.MethodName)) ∈ lw_all := lw_g (lw_at lw_m4 155 rfl) rfl
theorem q981 : (Jvm.Cond.code ({ cls := "java/lang/StringUTF16", name := "toBytes", desc := "(C)[B" } : Jvm.MethodName) prog_38_method_24_code (2 : Nat) (Option.some (Jvm.ClassFile.FieldType.array Jvm.ClassFile.FieldType.byte))) ∈ lw_all := lw_g (lw_at lw_m4 156 rfl) rfl
theorem q1161 : (Jvm.Cond.static ({ cls := "java/lang/StringUTF16", name := "charAt", desc := "([BI)C" } : Jvm.MethodName)) ∈ lw_all := lw_g (lw_at lw_m5 96 rfl) rfl
theorem q1162 : (Jvm.Cond.code ({ cls := "java/lang/StringUTF16", name := "charAt", desc := "([BI)C" } : Jvm.MethodName) prog_38_method_83_code (2 : Nat) (Option.some Jvm.ClassFile.FieldType.char)) ∈ lw_all := lw_g (lw_at lw_m5 97 rfl) rfl

/-! jdk/internal/util/ArraysSupport -/
set_option maxRecDepth 100000
def RJ11 : String := "jdk/internal/util/ArraysSupport"
abbrev cJ11_newLength : ByteArray := prog_53_method_27_code
def yJ11_newLength : MethodName := ⟨RJ11, "newLength", "(III)I"⟩
def dkwJ11_newLength_1 : List UInt8 := [184, 0, 201, 172]
abbrev dktJ11_newLength_1 : List UInt8 := dkwJ11_newLength_1 ++ []
def dkwJ11_newLength_0 : List UInt8 := [26, 27, 28, 184, 0, 194, 96, 62, 3, 29, 162, 0, 11, 29, 18, 200, 163, 0, 5, 29, 172, 26, 27]
abbrev dktJ11_newLength_0 : List UInt8 := dkwJ11_newLength_0 ++ dktJ11_newLength_1
theorem dksJ11_newLength_0 : cJ11_newLength.data.toList.drop 0 = dktJ11_newLength_0 := by decide +kernel
theorem dksJ11_newLength_1 : cJ11_newLength.data.toList.drop 23 = dktJ11_newLength_1 := dk_seg dksJ11_newLength_0 23 rfl rfl
theorem dJ11_newLength_0 : decode cJ11_newLength 0 = .ok (.iload_n 0, 1) := dk_26 (dk_at dksJ11_newLength_0 0 rfl rfl)
theorem dJ11_newLength_1 : decode cJ11_newLength 1 = .ok (.iload_n 1, 1) := dk_27 (dk_at dksJ11_newLength_0 1 rfl rfl)
theorem dJ11_newLength_2 : decode cJ11_newLength 2 = .ok (.iload_n 2, 1) := dk_28 (dk_at dksJ11_newLength_0 2 rfl rfl)
theorem dJ11_newLength_3 : decode cJ11_newLength 3 = .ok (.invokestatic 194, 3) := dk_184 0 194 (dk_at dksJ11_newLength_0 3 rfl rfl)
theorem dJ11_newLength_6 : decode cJ11_newLength 6 = .ok (.iadd, 1) := dk_96 (dk_at dksJ11_newLength_0 6 rfl rfl)
theorem dJ11_newLength_7 : decode cJ11_newLength 7 = .ok (.istore_n 3, 1) := dk_62 (dk_at dksJ11_newLength_0 7 rfl rfl)
theorem dJ11_newLength_8 : decode cJ11_newLength 8 = .ok (.iconst 0, 1) := dk_3 (dk_at dksJ11_newLength_0 8 rfl rfl)
theorem dJ11_newLength_9 : decode cJ11_newLength 9 = .ok (.iload_n 3, 1) := dk_29 (dk_at dksJ11_newLength_0 9 rfl rfl)
theorem dJ11_newLength_10 : decode cJ11_newLength 10 = .ok (.if_icmp .ge 11, 3) := dk_162 0 11 (dk_at dksJ11_newLength_0 10 rfl rfl)
theorem dJ11_newLength_13 : decode cJ11_newLength 13 = .ok (.iload_n 3, 1) := dk_29 (dk_at dksJ11_newLength_0 13 rfl rfl)
theorem dJ11_newLength_14 : decode cJ11_newLength 14 = .ok (.ldc 200, 2) := dk_18 200 (dk_at dksJ11_newLength_0 14 rfl rfl)
theorem dJ11_newLength_16 : decode cJ11_newLength 16 = .ok (.if_icmp .gt 5, 3) := dk_163 0 5 (dk_at dksJ11_newLength_0 16 rfl rfl)
theorem dJ11_newLength_19 : decode cJ11_newLength 19 = .ok (.iload_n 3, 1) := dk_29 (dk_at dksJ11_newLength_0 19 rfl rfl)
theorem dJ11_newLength_20 : decode cJ11_newLength 20 = .ok (.ireturn, 1) := dk_172 (dk_at dksJ11_newLength_0 20 rfl rfl)
theorem dJ11_newLength_21 : decode cJ11_newLength 21 = .ok (.iload_n 0, 1) := dk_26 (dk_at dksJ11_newLength_0 21 rfl rfl)
theorem dJ11_newLength_22 : decode cJ11_newLength 22 = .ok (.iload_n 1, 1) := dk_27 (dk_at dksJ11_newLength_0 22 rfl rfl)
theorem dJ11_newLength_23 : decode cJ11_newLength 23 = .ok (.invokestatic 201, 3) := dk_184 0 201 (dk_at dksJ11_newLength_1 0 rfl rfl)
theorem dJ11_newLength_26 : decode cJ11_newLength 26 = .ok (.ireturn, 1) := dk_172 (dk_at dksJ11_newLength_1 3 rfl rfl)
abbrev cJ11_hugeLength : ByteArray := prog_53_method_28_code
def yJ11_hugeLength : MethodName := ⟨RJ11, "hugeLength", "(II)I"⟩
def dkwJ11_hugeLength_2 : List UInt8 := [191, 28, 18, 200, 163, 0, 6, 18, 200, 172, 28, 172]
abbrev dktJ11_hugeLength_2 : List UInt8 := dkwJ11_hugeLength_2 ++ []
def dkwJ11_hugeLength_1 : List UInt8 := [26, 182, 0, 98, 18, 208, 182, 0, 94, 27, 182, 0, 98, 18, 210, 182, 0, 94, 182, 0, 101, 183, 0, 212]
abbrev dktJ11_hugeLength_1 : List UInt8 := dkwJ11_hugeLength_1 ++ dktJ11_hugeLength_2
def dkwJ11_hugeLength_0 : List UInt8 := [26, 27, 96, 61, 28, 156, 0, 44, 187, 0, 204, 89, 187, 0, 89, 89, 183, 0, 91, 18, 206, 182, 0, 94]
abbrev dktJ11_hugeLength_0 : List UInt8 := dkwJ11_hugeLength_0 ++ dktJ11_hugeLength_1
theorem dksJ11_hugeLength_0 : cJ11_hugeLength.data.toList.drop 0 = dktJ11_hugeLength_0 := by decide +kernel
theorem dksJ11_hugeLength_1 : cJ11_hugeLength.data.toList.drop 24 = dktJ11_hugeLength_1 := dk_seg dksJ11_hugeLength_0 24 rfl rfl
theorem dksJ11_hugeLength_2 : cJ11_hugeLength.data.toList.drop 48 = dktJ11_hugeLength_2 := dk_seg dksJ11_hugeLength_1 24 rfl rfl
theorem dJ11_hugeLength_0 : decode cJ11_hugeLength 0 = .ok (.iload_n 0, 1) := dk_26 (dk_at dksJ11_hugeLength_0 0 rfl rfl)
theorem dJ11_hugeLength_1 : decode cJ11_hugeLength 1 = .ok (.iload_n 1, 1) := dk_27 (dk_at dksJ11_hugeLength_0 1 rfl rfl)
theorem dJ11_hugeLength_2 : decode cJ11_hugeLength 2 = .ok (.iadd, 1) := dk_96 (dk_at dksJ11_hugeLength_0 2 rfl rfl)
theorem dJ11_hugeLength_3 : decode cJ11_hugeLength 3 = .ok (.istore_n 2, 1) := dk_61 (dk_at dksJ11_hugeLength_0 3 rfl rfl)
theorem dJ11_hugeLength_4 : decode cJ11_hugeLength 4 = .ok (.iload_n 2, 1) := dk_28 (dk_at dksJ11_hugeLength_0 4 rfl rfl)
theorem dJ11_hugeLength_5 : decode cJ11_hugeLength 5 = .ok (.ifCond .ge 44, 3) := dk_156 0 44 (dk_at dksJ11_hugeLength_0 5 rfl rfl)
theorem dJ11_hugeLength_8 : decode cJ11_hugeLength 8 = .ok (.new 204, 3) := dk_187 0 204 (dk_at dksJ11_hugeLength_0 8 rfl rfl)
theorem dJ11_hugeLength_11 : decode cJ11_hugeLength 11 = .ok (.dup, 1) := dk_89 (dk_at dksJ11_hugeLength_0 11 rfl rfl)
theorem dJ11_hugeLength_12 : decode cJ11_hugeLength 12 = .ok (.new 89, 3) := dk_187 0 89 (dk_at dksJ11_hugeLength_0 12 rfl rfl)
theorem dJ11_hugeLength_15 : decode cJ11_hugeLength 15 = .ok (.dup, 1) := dk_89 (dk_at dksJ11_hugeLength_0 15 rfl rfl)
theorem dJ11_hugeLength_16 : decode cJ11_hugeLength 16 = .ok (.invokespecial 91, 3) := dk_183 0 91 (dk_at dksJ11_hugeLength_0 16 rfl rfl)
theorem dJ11_hugeLength_19 : decode cJ11_hugeLength 19 = .ok (.ldc 206, 2) := dk_18 206 (dk_at dksJ11_hugeLength_0 19 rfl rfl)
theorem dJ11_hugeLength_21 : decode cJ11_hugeLength 21 = .ok (.invokevirtual 94, 3) := dk_182 0 94 (dk_at dksJ11_hugeLength_0 21 rfl rfl)
theorem dJ11_hugeLength_24 : decode cJ11_hugeLength 24 = .ok (.iload_n 0, 1) := dk_26 (dk_at dksJ11_hugeLength_1 0 rfl rfl)
theorem dJ11_hugeLength_25 : decode cJ11_hugeLength 25 = .ok (.invokevirtual 98, 3) := dk_182 0 98 (dk_at dksJ11_hugeLength_1 1 rfl rfl)
theorem dJ11_hugeLength_28 : decode cJ11_hugeLength 28 = .ok (.ldc 208, 2) := dk_18 208 (dk_at dksJ11_hugeLength_1 4 rfl rfl)
theorem dJ11_hugeLength_30 : decode cJ11_hugeLength 30 = .ok (.invokevirtual 94, 3) := dk_182 0 94 (dk_at dksJ11_hugeLength_1 6 rfl rfl)
theorem dJ11_hugeLength_33 : decode cJ11_hugeLength 33 = .ok (.iload_n 1, 1) := dk_27 (dk_at dksJ11_hugeLength_1 9 rfl rfl)
theorem dJ11_hugeLength_34 : decode cJ11_hugeLength 34 = .ok (.invokevirtual 98, 3) := dk_182 0 98 (dk_at dksJ11_hugeLength_1 10 rfl rfl)
theorem dJ11_hugeLength_37 : decode cJ11_hugeLength 37 = .ok (.ldc 210, 2) := dk_18 210 (dk_at dksJ11_hugeLength_1 13 rfl rfl)
theorem dJ11_hugeLength_39 : decode cJ11_hugeLength 39 = .ok (.invokevirtual 94, 3) := dk_182 0 94 (dk_at dksJ11_hugeLength_1 15 rfl rfl)
theorem dJ11_hugeLength_42 : decode cJ11_hugeLength 42 = .ok (.invokevirtual 101, 3) := dk_182 0 101 (dk_at dksJ11_hugeLength_1 18 rfl rfl)
theorem dJ11_hugeLength_45 : decode cJ11_hugeLength 45 = .ok (.invokespecial 212, 3) := dk_183 0 212 (dk_at dksJ11_hugeLength_1 21 rfl rfl)
theorem dJ11_hugeLength_48 : decode cJ11_hugeLength 48 = .ok (.athrow, 1) := dk_191 (dk_at dksJ11_hugeLength_2 0 rfl rfl)
theorem dJ11_hugeLength_49 : decode cJ11_hugeLength 49 = .ok (.iload_n 2, 1) := dk_28 (dk_at dksJ11_hugeLength_2 1 rfl rfl)
theorem dJ11_hugeLength_50 : decode cJ11_hugeLength 50 = .ok (.ldc 200, 2) := dk_18 200 (dk_at dksJ11_hugeLength_2 2 rfl rfl)
theorem dJ11_hugeLength_52 : decode cJ11_hugeLength 52 = .ok (.if_icmp .gt 6, 3) := dk_163 0 6 (dk_at dksJ11_hugeLength_2 4 rfl rfl)
theorem dJ11_hugeLength_55 : decode cJ11_hugeLength 55 = .ok (.ldc 200, 2) := dk_18 200 (dk_at dksJ11_hugeLength_2 7 rfl rfl)
theorem dJ11_hugeLength_57 : decode cJ11_hugeLength 57 = .ok (.ireturn, 1) := dk_172 (dk_at dksJ11_hugeLength_2 9 rfl rfl)
theorem dJ11_hugeLength_58 : decode cJ11_hugeLength 58 = .ok (.iload_n 2, 1) := dk_28 (dk_at dksJ11_hugeLength_2 10 rfl rfl)
theorem dJ11_hugeLength_59 : decode cJ11_hugeLength 59 = .ok (.ireturn, 1) := dk_172 (dk_at dksJ11_hugeLength_2 11 rfl rfl)
theorem q119 : (Jvm.Cond.initialized "jdk/internal/util/ArraysSupport") ∈ lw_all := lw_g (lw_at lw_m1 14 rfl) rfl
theorem q272 : (Jvm.Cond.static ({ cls := "jdk/internal/util/ArraysSupport", name := "newLength", desc := "(III)I" } : Jvm.MethodName)) ∈ lw_all := lw_g (lw_at lw_m1 167 rfl) rfl
theorem q273 : (Jvm.Cond.code ({ cls := "jdk/internal/util/ArraysSupport", name := "newLength", desc := "(III)I" } : Jvm.MethodName) prog_53_method_27_code (4 : Nat) (Option.some Jvm.ClassFile.FieldType.int)) ∈ lw_all := lw_g (lw_at lw_m1 168 rfl) rfl
theorem q274 : (Jvm.Cond.methodLink "jdk/internal/util/ArraysSupport" (194 : Nat) ({ cls := "java/lang/Math", name := "max", desc := "(II)I" } : Jvm.MethodName)) ∈ lw_all := lw_g (lw_at lw_m1 169 rfl) rfl
theorem q277 : (Jvm.Cond.constant "jdk/internal/util/ArraysSupport" (200 : Nat) (2147483639 : Int32)) ∈ lw_all := lw_g (lw_at lw_m1 172 rfl) rfl
theorem q278 : (Jvm.Cond.methodLink "jdk/internal/util/ArraysSupport" (201 : Nat) ({ cls := "jdk/internal/util/ArraysSupport", name := "hugeLength", desc := "(II)I" } : Jvm.MethodName)) ∈ lw_all := lw_g (lw_at lw_m1 173 rfl) rfl
theorem q279 : (Jvm.Cond.static ({ cls := "jdk/internal/util/ArraysSupport", name := "hugeLength", desc := "(II)I" } : Jvm.MethodName)) ∈ lw_all := lw_g (lw_at lw_m1 174 rfl) rfl
theorem q280 : (Jvm.Cond.code ({ cls := "jdk/internal/util/ArraysSupport", name := "hugeLength", desc := "(II)I" } : Jvm.MethodName) prog_53_method_28_code (3 : Nat) (Option.some Jvm.ClassFile.FieldType.int)) ∈ lw_all := lw_g (lw_at lw_m1 175 rfl) rfl

/-! java/lang/Math -/
set_option maxRecDepth 100000
def RJ12 : String := "java/lang/Math"
abbrev cJ12_max : ByteArray := prog_32_method_65_code
def yJ12_max : MethodName := ⟨RJ12, "max", "(II)I"⟩
def dkwJ12_max_0 : List UInt8 := [26, 27, 161, 0, 7, 26, 167, 0, 4, 27, 172]
abbrev dktJ12_max_0 : List UInt8 := dkwJ12_max_0 ++ []
theorem dksJ12_max_0 : cJ12_max.data.toList.drop 0 = dktJ12_max_0 := by decide +kernel
theorem dJ12_max_0 : decode cJ12_max 0 = .ok (.iload_n 0, 1) := dk_26 (dk_at dksJ12_max_0 0 rfl rfl)
theorem dJ12_max_1 : decode cJ12_max 1 = .ok (.iload_n 1, 1) := dk_27 (dk_at dksJ12_max_0 1 rfl rfl)
theorem dJ12_max_2 : decode cJ12_max 2 = .ok (.if_icmp .lt 7, 3) := dk_161 0 7 (dk_at dksJ12_max_0 2 rfl rfl)
theorem dJ12_max_5 : decode cJ12_max 5 = .ok (.iload_n 0, 1) := dk_26 (dk_at dksJ12_max_0 5 rfl rfl)
theorem dJ12_max_6 : decode cJ12_max 6 = .ok (.goto 4, 3) := dk_167 0 4 (dk_at dksJ12_max_0 6 rfl rfl)
theorem dJ12_max_9 : decode cJ12_max 9 = .ok (.iload_n 1, 1) := dk_27 (dk_at dksJ12_max_0 9 rfl rfl)
theorem dJ12_max_10 : decode cJ12_max 10 = .ok (.ireturn, 1) := dk_172 (dk_at dksJ12_max_0 10 rfl rfl)
abbrev cJ12_min : ByteArray := prog_32_method_69_code
def yJ12_min : MethodName := ⟨RJ12, "min", "(II)I"⟩
def dkwJ12_min_0 : List UInt8 := [26, 27, 163, 0, 7, 26, 167, 0, 4, 27, 172]
abbrev dktJ12_min_0 : List UInt8 := dkwJ12_min_0 ++ []
theorem dksJ12_min_0 : cJ12_min.data.toList.drop 0 = dktJ12_min_0 := by decide +kernel
theorem dJ12_min_0 : decode cJ12_min 0 = .ok (.iload_n 0, 1) := dk_26 (dk_at dksJ12_min_0 0 rfl rfl)
theorem dJ12_min_1 : decode cJ12_min 1 = .ok (.iload_n 1, 1) := dk_27 (dk_at dksJ12_min_0 1 rfl rfl)
theorem dJ12_min_2 : decode cJ12_min 2 = .ok (.if_icmp .gt 7, 3) := dk_163 0 7 (dk_at dksJ12_min_0 2 rfl rfl)
theorem dJ12_min_5 : decode cJ12_min 5 = .ok (.iload_n 0, 1) := dk_26 (dk_at dksJ12_min_0 5 rfl rfl)
theorem dJ12_min_6 : decode cJ12_min 6 = .ok (.goto 4, 3) := dk_167 0 4 (dk_at dksJ12_min_0 6 rfl rfl)
theorem dJ12_min_9 : decode cJ12_min 9 = .ok (.iload_n 1, 1) := dk_27 (dk_at dksJ12_min_0 9 rfl rfl)
theorem dJ12_min_10 : decode cJ12_min 10 = .ok (.ireturn, 1) := dk_172 (dk_at dksJ12_min_0 10 rfl rfl)
theorem q120 : (Jvm.Cond.initialized "java/lang/Math") ∈ lw_all := lw_g (lw_at lw_m1 15 rfl) rfl
theorem q275 : (Jvm.Cond.static ({ cls := "java/lang/Math", name := "max", desc := "(II)I" } : Jvm.MethodName)) ∈ lw_all := lw_g (lw_at lw_m1 170 rfl) rfl
theorem q276 : (Jvm.Cond.code ({ cls := "java/lang/Math", name := "max", desc := "(II)I" } : Jvm.MethodName) prog_32_method_65_code (2 : Nat) (Option.some Jvm.ClassFile.FieldType.int)) ∈ lw_all := lw_g (lw_at lw_m1 171 rfl) rfl
theorem q293 : (Jvm.Cond.static ({ cls := "java/lang/Math", name := "min", desc := "(II)I" } : Jvm.MethodName)) ∈ lw_all := lw_g (lw_at lw_m1 188 rfl) rfl
theorem q294 : (Jvm.Cond.code ({ cls := "java/lang/Math", name := "min", desc := "(II)I" } : Jvm.MethodName) prog_32_method_69_code (2 : Nat) (Option.some Jvm.ClassFile.FieldType.int)) ∈ lw_all := lw_g (lw_at lw_m1 189 rfl) rfl

/-! java/util/Arrays -/
set_option maxRecDepth 100000
def RJ13 : String := "java/util/Arrays"
abbrev cJ13_copyOf : ByteArray := prog_46_method_121_code
def yJ13_copyOf : MethodName := ⟨RJ13, "copyOf", "([BI)[B"⟩
def dkwJ13_copyOf_1 : List UInt8 := [27, 184, 1, 48, 184, 0, 150, 44, 176]
abbrev dktJ13_copyOf_1 : List UInt8 := dkwJ13_copyOf_1 ++ []
def dkwJ13_copyOf_0 : List UInt8 := [27, 42, 190, 160, 0, 11, 42, 182, 1, 54, 192, 1, 55, 176, 27, 188, 8, 77, 42, 3, 44, 3, 42, 190]
abbrev dktJ13_copyOf_0 : List UInt8 := dkwJ13_copyOf_0 ++ dktJ13_copyOf_1
theorem dksJ13_copyOf_0 : cJ13_copyOf.data.toList.drop 0 = dktJ13_copyOf_0 := by decide +kernel
theorem dksJ13_copyOf_1 : cJ13_copyOf.data.toList.drop 24 = dktJ13_copyOf_1 := dk_seg dksJ13_copyOf_0 24 rfl rfl
theorem dJ13_copyOf_0 : decode cJ13_copyOf 0 = .ok (.iload_n 1, 1) := dk_27 (dk_at dksJ13_copyOf_0 0 rfl rfl)
theorem dJ13_copyOf_1 : decode cJ13_copyOf 1 = .ok (.aload_n 0, 1) := dk_42 (dk_at dksJ13_copyOf_0 1 rfl rfl)
theorem dJ13_copyOf_2 : decode cJ13_copyOf 2 = .ok (.arraylength, 1) := dk_190 (dk_at dksJ13_copyOf_0 2 rfl rfl)
theorem dJ13_copyOf_3 : decode cJ13_copyOf 3 = .ok (.if_icmp .ne 11, 3) := dk_160 0 11 (dk_at dksJ13_copyOf_0 3 rfl rfl)
theorem dJ13_copyOf_6 : decode cJ13_copyOf 6 = .ok (.aload_n 0, 1) := dk_42 (dk_at dksJ13_copyOf_0 6 rfl rfl)
theorem dJ13_copyOf_7 : decode cJ13_copyOf 7 = .ok (.invokevirtual 310, 3) := dk_182 1 54 (dk_at dksJ13_copyOf_0 7 rfl rfl)
theorem dJ13_copyOf_10 : decode cJ13_copyOf 10 = .ok (.checkcast 311, 3) := dk_192 1 55 (dk_at dksJ13_copyOf_0 10 rfl rfl)
theorem dJ13_copyOf_13 : decode cJ13_copyOf 13 = .ok (.areturn, 1) := dk_176 (dk_at dksJ13_copyOf_0 13 rfl rfl)
theorem dJ13_copyOf_14 : decode cJ13_copyOf 14 = .ok (.iload_n 1, 1) := dk_27 (dk_at dksJ13_copyOf_0 14 rfl rfl)
theorem dJ13_copyOf_15 : decode cJ13_copyOf 15 = .ok (.newarray .byte, 2) := dk_188_8 (dk_at dksJ13_copyOf_0 15 rfl rfl)
theorem dJ13_copyOf_17 : decode cJ13_copyOf 17 = .ok (.astore_n 2, 1) := dk_77 (dk_at dksJ13_copyOf_0 17 rfl rfl)
theorem dJ13_copyOf_18 : decode cJ13_copyOf 18 = .ok (.aload_n 0, 1) := dk_42 (dk_at dksJ13_copyOf_0 18 rfl rfl)
theorem dJ13_copyOf_19 : decode cJ13_copyOf 19 = .ok (.iconst 0, 1) := dk_3 (dk_at dksJ13_copyOf_0 19 rfl rfl)
theorem dJ13_copyOf_20 : decode cJ13_copyOf 20 = .ok (.aload_n 2, 1) := dk_44 (dk_at dksJ13_copyOf_0 20 rfl rfl)
theorem dJ13_copyOf_21 : decode cJ13_copyOf 21 = .ok (.iconst 0, 1) := dk_3 (dk_at dksJ13_copyOf_0 21 rfl rfl)
theorem dJ13_copyOf_22 : decode cJ13_copyOf 22 = .ok (.aload_n 0, 1) := dk_42 (dk_at dksJ13_copyOf_0 22 rfl rfl)
theorem dJ13_copyOf_23 : decode cJ13_copyOf 23 = .ok (.arraylength, 1) := dk_190 (dk_at dksJ13_copyOf_0 23 rfl rfl)
theorem dJ13_copyOf_24 : decode cJ13_copyOf 24 = .ok (.iload_n 1, 1) := dk_27 (dk_at dksJ13_copyOf_1 0 rfl rfl)
theorem dJ13_copyOf_25 : decode cJ13_copyOf 25 = .ok (.invokestatic 304, 3) := dk_184 1 48 (dk_at dksJ13_copyOf_1 1 rfl rfl)
theorem dJ13_copyOf_28 : decode cJ13_copyOf 28 = .ok (.invokestatic 150, 3) := dk_184 0 150 (dk_at dksJ13_copyOf_1 4 rfl rfl)
theorem dJ13_copyOf_31 : decode cJ13_copyOf 31 = .ok (.aload_n 2, 1) := dk_44 (dk_at dksJ13_copyOf_1 7 rfl rfl)
theorem dJ13_copyOf_32 : decode cJ13_copyOf 32 = .ok (.areturn, 1) := dk_176 (dk_at dksJ13_copyOf_1 8 rfl rfl)
abbrev cJ13_copyOfRange : ByteArray := prog_46_method_132_code
def yJ13_copyOfRange : MethodName := ⟨RJ13, "copyOfRange", "([BII)[B"⟩
def dkwJ13_copyOfRange_1 : List UInt8 := [176]
abbrev dktJ13_copyOfRange_1 : List UInt8 := dkwJ13_copyOfRange_1 ++ []
def dkwJ13_copyOfRange_0 : List UInt8 := [27, 154, 0, 9, 28, 42, 190, 159, 0, 10, 42, 27, 28, 184, 1, 83, 176, 42, 182, 1, 54, 192, 1, 55]
abbrev dktJ13_copyOfRange_0 : List UInt8 := dkwJ13_copyOfRange_0 ++ dktJ13_copyOfRange_1
theorem dksJ13_copyOfRange_0 : cJ13_copyOfRange.data.toList.drop 0 = dktJ13_copyOfRange_0 := by decide +kernel
theorem dksJ13_copyOfRange_1 : cJ13_copyOfRange.data.toList.drop 24 = dktJ13_copyOfRange_1 := dk_seg dksJ13_copyOfRange_0 24 rfl rfl
theorem dJ13_copyOfRange_0 : decode cJ13_copyOfRange 0 = .ok (.iload_n 1, 1) := dk_27 (dk_at dksJ13_copyOfRange_0 0 rfl rfl)
theorem dJ13_copyOfRange_1 : decode cJ13_copyOfRange 1 = .ok (.ifCond .ne 9, 3) := dk_154 0 9 (dk_at dksJ13_copyOfRange_0 1 rfl rfl)
theorem dJ13_copyOfRange_4 : decode cJ13_copyOfRange 4 = .ok (.iload_n 2, 1) := dk_28 (dk_at dksJ13_copyOfRange_0 4 rfl rfl)
theorem dJ13_copyOfRange_5 : decode cJ13_copyOfRange 5 = .ok (.aload_n 0, 1) := dk_42 (dk_at dksJ13_copyOfRange_0 5 rfl rfl)
theorem dJ13_copyOfRange_6 : decode cJ13_copyOfRange 6 = .ok (.arraylength, 1) := dk_190 (dk_at dksJ13_copyOfRange_0 6 rfl rfl)
theorem dJ13_copyOfRange_7 : decode cJ13_copyOfRange 7 = .ok (.if_icmp .eq 10, 3) := dk_159 0 10 (dk_at dksJ13_copyOfRange_0 7 rfl rfl)
theorem dJ13_copyOfRange_10 : decode cJ13_copyOfRange 10 = .ok (.aload_n 0, 1) := dk_42 (dk_at dksJ13_copyOfRange_0 10 rfl rfl)
theorem dJ13_copyOfRange_11 : decode cJ13_copyOfRange 11 = .ok (.iload_n 1, 1) := dk_27 (dk_at dksJ13_copyOfRange_0 11 rfl rfl)
theorem dJ13_copyOfRange_12 : decode cJ13_copyOfRange 12 = .ok (.iload_n 2, 1) := dk_28 (dk_at dksJ13_copyOfRange_0 12 rfl rfl)
theorem dJ13_copyOfRange_13 : decode cJ13_copyOfRange 13 = .ok (.invokestatic 339, 3) := dk_184 1 83 (dk_at dksJ13_copyOfRange_0 13 rfl rfl)
theorem dJ13_copyOfRange_16 : decode cJ13_copyOfRange 16 = .ok (.areturn, 1) := dk_176 (dk_at dksJ13_copyOfRange_0 16 rfl rfl)
theorem dJ13_copyOfRange_17 : decode cJ13_copyOfRange 17 = .ok (.aload_n 0, 1) := dk_42 (dk_at dksJ13_copyOfRange_0 17 rfl rfl)
theorem dJ13_copyOfRange_18 : decode cJ13_copyOfRange 18 = .ok (.invokevirtual 310, 3) := dk_182 1 54 (dk_at dksJ13_copyOfRange_0 18 rfl rfl)
theorem dJ13_copyOfRange_21 : decode cJ13_copyOfRange 21 = .ok (.checkcast 311, 3) := dk_192 1 55 (dk_at dksJ13_copyOfRange_0 21 rfl rfl)
theorem dJ13_copyOfRange_24 : decode cJ13_copyOfRange 24 = .ok (.areturn, 1) := dk_176 (dk_at dksJ13_copyOfRange_1 0 rfl rfl)
abbrev cJ13_copyOfRangeByte : ByteArray := prog_46_method_133_code
def yJ13_copyOfRangeByte : MethodName := ⟨RJ13, "copyOfRangeByte", "([BII)[B"⟩
def dkwJ13_copyOfRangeByte_1 : List UInt8 := [184, 1, 48, 184, 0, 150, 25, 4, 176]
abbrev dktJ13_copyOfRangeByte_1 : List UInt8 := dkwJ13_copyOfRangeByte_1 ++ []
def dkwJ13_copyOfRangeByte_0 : List UInt8 := [27, 28, 184, 1, 87, 28, 27, 100, 62, 29, 188, 8, 58, 4, 42, 27, 25, 4, 3, 42, 190, 27, 100, 29]
abbrev dktJ13_copyOfRangeByte_0 : List UInt8 := dkwJ13_copyOfRangeByte_0 ++ dktJ13_copyOfRangeByte_1
theorem dksJ13_copyOfRangeByte_0 : cJ13_copyOfRangeByte.data.toList.drop 0 = dktJ13_copyOfRangeByte_0 := by decide +kernel
theorem dksJ13_copyOfRangeByte_1 : cJ13_copyOfRangeByte.data.toList.drop 24 = dktJ13_copyOfRangeByte_1 := dk_seg dksJ13_copyOfRangeByte_0 24 rfl rfl
theorem dJ13_copyOfRangeByte_0 : decode cJ13_copyOfRangeByte 0 = .ok (.iload_n 1, 1) := dk_27 (dk_at dksJ13_copyOfRangeByte_0 0 rfl rfl)
theorem dJ13_copyOfRangeByte_1 : decode cJ13_copyOfRangeByte 1 = .ok (.iload_n 2, 1) := dk_28 (dk_at dksJ13_copyOfRangeByte_0 1 rfl rfl)
theorem dJ13_copyOfRangeByte_2 : decode cJ13_copyOfRangeByte 2 = .ok (.invokestatic 343, 3) := dk_184 1 87 (dk_at dksJ13_copyOfRangeByte_0 2 rfl rfl)
theorem dJ13_copyOfRangeByte_5 : decode cJ13_copyOfRangeByte 5 = .ok (.iload_n 2, 1) := dk_28 (dk_at dksJ13_copyOfRangeByte_0 5 rfl rfl)
theorem dJ13_copyOfRangeByte_6 : decode cJ13_copyOfRangeByte 6 = .ok (.iload_n 1, 1) := dk_27 (dk_at dksJ13_copyOfRangeByte_0 6 rfl rfl)
theorem dJ13_copyOfRangeByte_7 : decode cJ13_copyOfRangeByte 7 = .ok (.isub, 1) := dk_100 (dk_at dksJ13_copyOfRangeByte_0 7 rfl rfl)
theorem dJ13_copyOfRangeByte_8 : decode cJ13_copyOfRangeByte 8 = .ok (.istore_n 3, 1) := dk_62 (dk_at dksJ13_copyOfRangeByte_0 8 rfl rfl)
theorem dJ13_copyOfRangeByte_9 : decode cJ13_copyOfRangeByte 9 = .ok (.iload_n 3, 1) := dk_29 (dk_at dksJ13_copyOfRangeByte_0 9 rfl rfl)
theorem dJ13_copyOfRangeByte_10 : decode cJ13_copyOfRangeByte 10 = .ok (.newarray .byte, 2) := dk_188_8 (dk_at dksJ13_copyOfRangeByte_0 10 rfl rfl)
theorem dJ13_copyOfRangeByte_12 : decode cJ13_copyOfRangeByte 12 = .ok (.astore 4, 2) := dk_58 4 (dk_at dksJ13_copyOfRangeByte_0 12 rfl rfl)
theorem dJ13_copyOfRangeByte_14 : decode cJ13_copyOfRangeByte 14 = .ok (.aload_n 0, 1) := dk_42 (dk_at dksJ13_copyOfRangeByte_0 14 rfl rfl)
theorem dJ13_copyOfRangeByte_15 : decode cJ13_copyOfRangeByte 15 = .ok (.iload_n 1, 1) := dk_27 (dk_at dksJ13_copyOfRangeByte_0 15 rfl rfl)
theorem dJ13_copyOfRangeByte_16 : decode cJ13_copyOfRangeByte 16 = .ok (.aload 4, 2) := dk_25 4 (dk_at dksJ13_copyOfRangeByte_0 16 rfl rfl)
theorem dJ13_copyOfRangeByte_18 : decode cJ13_copyOfRangeByte 18 = .ok (.iconst 0, 1) := dk_3 (dk_at dksJ13_copyOfRangeByte_0 18 rfl rfl)
theorem dJ13_copyOfRangeByte_19 : decode cJ13_copyOfRangeByte 19 = .ok (.aload_n 0, 1) := dk_42 (dk_at dksJ13_copyOfRangeByte_0 19 rfl rfl)
theorem dJ13_copyOfRangeByte_20 : decode cJ13_copyOfRangeByte 20 = .ok (.arraylength, 1) := dk_190 (dk_at dksJ13_copyOfRangeByte_0 20 rfl rfl)
theorem dJ13_copyOfRangeByte_21 : decode cJ13_copyOfRangeByte 21 = .ok (.iload_n 1, 1) := dk_27 (dk_at dksJ13_copyOfRangeByte_0 21 rfl rfl)
theorem dJ13_copyOfRangeByte_22 : decode cJ13_copyOfRangeByte 22 = .ok (.isub, 1) := dk_100 (dk_at dksJ13_copyOfRangeByte_0 22 rfl rfl)
theorem dJ13_copyOfRangeByte_23 : decode cJ13_copyOfRangeByte 23 = .ok (.iload_n 3, 1) := dk_29 (dk_at dksJ13_copyOfRangeByte_0 23 rfl rfl)
theorem dJ13_copyOfRangeByte_24 : decode cJ13_copyOfRangeByte 24 = .ok (.invokestatic 304, 3) := dk_184 1 48 (dk_at dksJ13_copyOfRangeByte_1 0 rfl rfl)
theorem dJ13_copyOfRangeByte_27 : decode cJ13_copyOfRangeByte 27 = .ok (.invokestatic 150, 3) := dk_184 0 150 (dk_at dksJ13_copyOfRangeByte_1 3 rfl rfl)
theorem dJ13_copyOfRangeByte_30 : decode cJ13_copyOfRangeByte 30 = .ok (.aload 4, 2) := dk_25 4 (dk_at dksJ13_copyOfRangeByte_1 6 rfl rfl)
theorem dJ13_copyOfRangeByte_32 : decode cJ13_copyOfRangeByte 32 = .ok (.areturn, 1) := dk_176 (dk_at dksJ13_copyOfRangeByte_1 8 rfl rfl)
abbrev cJ13_checkLength : ByteArray := prog_46_method_131_code
def yJ13_checkLength : MethodName := ⟨RJ13, "checkLength", "(II)V"⟩
def dkwJ13_checkLength_1 : List UInt8 := [182, 0, 50, 27, 182, 0, 54, 182, 0, 61, 183, 0, 65, 191, 177]
abbrev dktJ13_checkLength_1 : List UInt8 := dkwJ13_checkLength_1 ++ []
def dkwJ13_checkLength_0 : List UInt8 := [27, 26, 162, 0, 35, 187, 0, 43, 89, 187, 0, 45, 89, 183, 0, 47, 26, 182, 0, 54, 19, 1, 81]
abbrev dktJ13_checkLength_0 : List UInt8 := dkwJ13_checkLength_0 ++ dktJ13_checkLength_1
theorem dksJ13_checkLength_0 : cJ13_checkLength.data.toList.drop 0 = dktJ13_checkLength_0 := by decide +kernel
theorem dksJ13_checkLength_1 : cJ13_checkLength.data.toList.drop 23 = dktJ13_checkLength_1 := dk_seg dksJ13_checkLength_0 23 rfl rfl
theorem dJ13_checkLength_0 : decode cJ13_checkLength 0 = .ok (.iload_n 1, 1) := dk_27 (dk_at dksJ13_checkLength_0 0 rfl rfl)
theorem dJ13_checkLength_1 : decode cJ13_checkLength 1 = .ok (.iload_n 0, 1) := dk_26 (dk_at dksJ13_checkLength_0 1 rfl rfl)
theorem dJ13_checkLength_2 : decode cJ13_checkLength 2 = .ok (.if_icmp .ge 35, 3) := dk_162 0 35 (dk_at dksJ13_checkLength_0 2 rfl rfl)
theorem dJ13_checkLength_5 : decode cJ13_checkLength 5 = .ok (.new 43, 3) := dk_187 0 43 (dk_at dksJ13_checkLength_0 5 rfl rfl)
theorem dJ13_checkLength_8 : decode cJ13_checkLength 8 = .ok (.dup, 1) := dk_89 (dk_at dksJ13_checkLength_0 8 rfl rfl)
theorem dJ13_checkLength_9 : decode cJ13_checkLength 9 = .ok (.new 45, 3) := dk_187 0 45 (dk_at dksJ13_checkLength_0 9 rfl rfl)
theorem dJ13_checkLength_12 : decode cJ13_checkLength 12 = .ok (.dup, 1) := dk_89 (dk_at dksJ13_checkLength_0 12 rfl rfl)
theorem dJ13_checkLength_13 : decode cJ13_checkLength 13 = .ok (.invokespecial 47, 3) := dk_183 0 47 (dk_at dksJ13_checkLength_0 13 rfl rfl)
theorem dJ13_checkLength_16 : decode cJ13_checkLength 16 = .ok (.iload_n 0, 1) := dk_26 (dk_at dksJ13_checkLength_0 16 rfl rfl)
theorem dJ13_checkLength_17 : decode cJ13_checkLength 17 = .ok (.invokevirtual 54, 3) := dk_182 0 54 (dk_at dksJ13_checkLength_0 17 rfl rfl)
theorem dJ13_checkLength_20 : decode cJ13_checkLength 20 = .ok (.ldc_w 337, 3) := dk_19 1 81 (dk_at dksJ13_checkLength_0 20 rfl rfl)
theorem dJ13_checkLength_23 : decode cJ13_checkLength 23 = .ok (.invokevirtual 50, 3) := dk_182 0 50 (dk_at dksJ13_checkLength_1 0 rfl rfl)
theorem dJ13_checkLength_26 : decode cJ13_checkLength 26 = .ok (.iload_n 1, 1) := dk_27 (dk_at dksJ13_checkLength_1 3 rfl rfl)
theorem dJ13_checkLength_27 : decode cJ13_checkLength 27 = .ok (.invokevirtual 54, 3) := dk_182 0 54 (dk_at dksJ13_checkLength_1 4 rfl rfl)
theorem dJ13_checkLength_30 : decode cJ13_checkLength 30 = .ok (.invokevirtual 61, 3) := dk_182 0 61 (dk_at dksJ13_checkLength_1 7 rfl rfl)
theorem dJ13_checkLength_33 : decode cJ13_checkLength 33 = .ok (.invokespecial 65, 3) := dk_183 0 65 (dk_at dksJ13_checkLength_1 10 rfl rfl)
theorem dJ13_checkLength_36 : decode cJ13_checkLength 36 = .ok (.athrow, 1) := dk_191 (dk_at dksJ13_checkLength_1 13 rfl rfl)
theorem dJ13_checkLength_37 : decode cJ13_checkLength 37 = .ok (.return_, 1) := dk_177 (dk_at dksJ13_checkLength_1 14 rfl rfl)
abbrev cJ13_copyOf_2 : ByteArray := prog_46_method_119_code
def yJ13_copyOf_2 : MethodName := ⟨RJ13, "copyOf", "([Ljava/lang/Object;I)[Ljava/lang/Object;"⟩
def dkwJ13_copyOf_2_0 : List UInt8 := [42, 27, 42, 182, 0, 86, 184, 1, 44, 176]
abbrev dktJ13_copyOf_2_0 : List UInt8 := dkwJ13_copyOf_2_0 ++ []
theorem dksJ13_copyOf_2_0 : cJ13_copyOf_2.data.toList.drop 0 = dktJ13_copyOf_2_0 := by decide +kernel
theorem dJ13_copyOf_2_0 : decode cJ13_copyOf_2 0 = .ok (.aload_n 0, 1) := dk_42 (dk_at dksJ13_copyOf_2_0 0 rfl rfl)
theorem dJ13_copyOf_2_1 : decode cJ13_copyOf_2 1 = .ok (.iload_n 1, 1) := dk_27 (dk_at dksJ13_copyOf_2_0 1 rfl rfl)
theorem dJ13_copyOf_2_2 : decode cJ13_copyOf_2 2 = .ok (.aload_n 0, 1) := dk_42 (dk_at dksJ13_copyOf_2_0 2 rfl rfl)
theorem dJ13_copyOf_2_3 : decode cJ13_copyOf_2 3 = .ok (.invokevirtual 86, 3) := dk_182 0 86 (dk_at dksJ13_copyOf_2_0 3 rfl rfl)
theorem dJ13_copyOf_2_6 : decode cJ13_copyOf_2 6 = .ok (.invokestatic 300, 3) := dk_184 1 44 (dk_at dksJ13_copyOf_2_0 6 rfl rfl)
theorem dJ13_copyOf_2_9 : decode cJ13_copyOf_2 9 = .ok (.areturn, 1) := dk_176 (dk_at dksJ13_copyOf_2_0 9 rfl rfl)
abbrev cJ13_copyOf_3 : ByteArray := prog_46_method_120_code
def yJ13_copyOf_3 : MethodName := ⟨RJ13, "copyOf", "([Ljava/lang/Object;ILjava/lang/Class;)[Ljava/lang/Object;"⟩
def dkwJ13_copyOf_3_1 : List UInt8 := [78, 42, 3, 45, 3, 42, 190, 27, 184, 1, 48, 184, 0, 150, 45, 176]
abbrev dktJ13_copyOf_3_1 : List UInt8 := dkwJ13_copyOf_3_1 ++ []
def dkwJ13_copyOf_3_0 : List UInt8 := [44, 18, 110, 166, 0, 10, 27, 189, 0, 2, 167, 0, 14, 44, 182, 0, 90, 27, 184, 0, 95, 192, 0, 110]
abbrev dktJ13_copyOf_3_0 : List UInt8 := dkwJ13_copyOf_3_0 ++ dktJ13_copyOf_3_1
theorem dksJ13_copyOf_3_0 : cJ13_copyOf_3.data.toList.drop 0 = dktJ13_copyOf_3_0 := by decide +kernel
theorem dksJ13_copyOf_3_1 : cJ13_copyOf_3.data.toList.drop 24 = dktJ13_copyOf_3_1 := dk_seg dksJ13_copyOf_3_0 24 rfl rfl
theorem dJ13_copyOf_3_0 : decode cJ13_copyOf_3 0 = .ok (.aload_n 2, 1) := dk_44 (dk_at dksJ13_copyOf_3_0 0 rfl rfl)
theorem dJ13_copyOf_3_1 : decode cJ13_copyOf_3 1 = .ok (.ldc 110, 2) := dk_18 110 (dk_at dksJ13_copyOf_3_0 1 rfl rfl)
theorem dJ13_copyOf_3_3 : decode cJ13_copyOf_3 3 = .ok (.if_acmp .ne 10, 3) := dk_166 0 10 (dk_at dksJ13_copyOf_3_0 3 rfl rfl)
theorem dJ13_copyOf_3_6 : decode cJ13_copyOf_3 6 = .ok (.iload_n 1, 1) := dk_27 (dk_at dksJ13_copyOf_3_0 6 rfl rfl)
theorem dJ13_copyOf_3_7 : decode cJ13_copyOf_3 7 = .ok (.anewarray 2, 3) := dk_189 0 2 (dk_at dksJ13_copyOf_3_0 7 rfl rfl)
theorem dJ13_copyOf_3_10 : decode cJ13_copyOf_3 10 = .ok (.goto 14, 3) := dk_167 0 14 (dk_at dksJ13_copyOf_3_0 10 rfl rfl)
theorem dJ13_copyOf_3_13 : decode cJ13_copyOf_3 13 = .ok (.aload_n 2, 1) := dk_44 (dk_at dksJ13_copyOf_3_0 13 rfl rfl)
theorem dJ13_copyOf_3_14 : decode cJ13_copyOf_3 14 = .ok (.invokevirtual 90, 3) := dk_182 0 90 (dk_at dksJ13_copyOf_3_0 14 rfl rfl)
theorem dJ13_copyOf_3_17 : decode cJ13_copyOf_3 17 = .ok (.iload_n 1, 1) := dk_27 (dk_at dksJ13_copyOf_3_0 17 rfl rfl)
theorem dJ13_copyOf_3_18 : decode cJ13_copyOf_3 18 = .ok (.invokestatic 95, 3) := dk_184 0 95 (dk_at dksJ13_copyOf_3_0 18 rfl rfl)
theorem dJ13_copyOf_3_21 : decode cJ13_copyOf_3 21 = .ok (.checkcast 110, 3) := dk_192 0 110 (dk_at dksJ13_copyOf_3_0 21 rfl rfl)
theorem dJ13_copyOf_3_24 : decode cJ13_copyOf_3 24 = .ok (.astore_n 3, 1) := dk_78 (dk_at dksJ13_copyOf_3_1 0 rfl rfl)
theorem dJ13_copyOf_3_25 : decode cJ13_copyOf_3 25 = .ok (.aload_n 0, 1) := dk_42 (dk_at dksJ13_copyOf_3_1 1 rfl rfl)
theorem dJ13_copyOf_3_26 : decode cJ13_copyOf_3 26 = .ok (.iconst 0, 1) := dk_3 (dk_at dksJ13_copyOf_3_1 2 rfl rfl)
theorem dJ13_copyOf_3_27 : decode cJ13_copyOf_3 27 = .ok (.aload_n 3, 1) := dk_45 (dk_at dksJ13_copyOf_3_1 3 rfl rfl)
theorem dJ13_copyOf_3_28 : decode cJ13_copyOf_3 28 = .ok (.iconst 0, 1) := dk_3 (dk_at dksJ13_copyOf_3_1 4 rfl rfl)
theorem dJ13_copyOf_3_29 : decode cJ13_copyOf_3 29 = .ok (.aload_n 0, 1) := dk_42 (dk_at dksJ13_copyOf_3_1 5 rfl rfl)
theorem dJ13_copyOf_3_30 : decode cJ13_copyOf_3 30 = .ok (.arraylength, 1) := dk_190 (dk_at dksJ13_copyOf_3_1 6 rfl rfl)
theorem dJ13_copyOf_3_31 : decode cJ13_copyOf_3 31 = .ok (.iload_n 1, 1) := dk_27 (dk_at dksJ13_copyOf_3_1 7 rfl rfl)
theorem dJ13_copyOf_3_32 : decode cJ13_copyOf_3 32 = .ok (.invokestatic 304, 3) := dk_184 1 48 (dk_at dksJ13_copyOf_3_1 8 rfl rfl)
theorem dJ13_copyOf_3_35 : decode cJ13_copyOf_3 35 = .ok (.invokestatic 150, 3) := dk_184 0 150 (dk_at dksJ13_copyOf_3_1 11 rfl rfl)
theorem dJ13_copyOf_3_38 : decode cJ13_copyOf_3 38 = .ok (.aload_n 3, 1) := dk_45 (dk_at dksJ13_copyOf_3_1 14 rfl rfl)
theorem dJ13_copyOf_3_39 : decode cJ13_copyOf_3 39 = .ok (.areturn, 1) := dk_176 (dk_at dksJ13_copyOf_3_1 15 rfl rfl)
theorem q121 : (Jvm.Cond.initialized "java/util/Arrays") ∈ lw_all := lw_g (lw_at lw_m1 16 rfl) rfl
theorem q283 : (Jvm.Cond.static ({ cls := "java/util/Arrays", name := "copyOf", desc := "([BI)[B" } : Jvm.MethodName)) ∈ lw_all := lw_g (lw_at lw_m1 178 rfl) rfl
theorem q284 : (Jvm.Cond.code ({ cls := "java/util/Arrays", name := "copyOf", desc := "([BI)[B" } : Jvm.MethodName) prog_46_method_121_code (3 : Nat) (Option.some (Jvm.ClassFile.FieldType.array Jvm.ClassFile.FieldType.byte))) ∈ lw_all := lw_g (lw_at lw_m1 179 rfl) rfl
theorem q285 : (Jvm.Cond.methodLink "java/util/Arrays" (310 : Nat) ({ cls := "[B", name := "clone", desc := "()Ljava/lang/Object;" } : Jvm.MethodName)) ∈ lw_all := lw_g (lw_at lw_m1 180 rfl) rfl
theorem q291 : (Jvm.Cond.classLink "java/util/Arrays" (311 : Nat) "[B") ∈ lw_all := lw_g (lw_at lw_m1 186 rfl) rfl
theorem q292 : (Jvm.Cond.methodLink "java/util/Arrays" (304 : Nat) ({ cls := "java/lang/Math", name := "min", desc := "(II)I" } : Jvm.MethodName)) ∈ lw_all := lw_g (lw_at lw_m1 187 rfl) rfl
theorem q295 : (Jvm.Cond.methodLink "java/util/Arrays" (150 : Nat) ({ cls := "java/lang/System", name := "arraycopy", desc := "(Ljava/lang/Object;ILjava/lang/Object;II)V" } : Jvm.MethodName)) ∈ lw_all := lw_g (lw_at lw_m1 190 rfl) rfl
theorem q425 : (Jvm.Cond.static ({ cls := "java/util/Arrays", name := "copyOfRange", desc := "([BII)[B" } : Jvm.MethodName)) ∈ lw_all := lw_g (lw_at lw_m2 80 rfl) rfl
theorem q426 : (Jvm.Cond.code ({ cls := "java/util/Arrays", name := "copyOfRange", desc := "([BII)[B" } : Jvm.MethodName) prog_46_method_132_code (3 : Nat) (Option.some (Jvm.ClassFile.FieldType.array Jvm.ClassFile.FieldType.byte))) ∈ lw_all := lw_g (lw_at lw_m2 81 rfl) rfl
theorem q427 : (Jvm.Cond.methodLink "java/util/Arrays" (339 : Nat) ({ cls := "java/util/Arrays", name := "copyOfRangeByte", desc := "([BII)[B" } : Jvm.MethodName)) ∈ lw_all := lw_g (lw_at lw_m2 82 rfl) rfl
theorem q428 : (Jvm.Cond.static ({ cls := "java/util/Arrays", name := "copyOfRangeByte", desc := "([BII)[B" } : Jvm.MethodName)) ∈ lw_all := lw_g (lw_at lw_m2 83 rfl) rfl
theorem q429 : (Jvm.Cond.code ({ cls := "java/util/Arrays", name := "copyOfRangeByte", desc := "([BII)[B" } : Jvm.MethodName) prog_46_method_133_code (5 : Nat) (Option.some (Jvm.ClassFile.FieldType.array Jvm.ClassFile.FieldType.byte))) ∈ lw_all := lw_g (lw_at lw_m2 84 rfl) rfl
theorem q430 : (Jvm.Cond.methodLink "java/util/Arrays" (343 : Nat) ({ cls := "java/util/Arrays", name := "checkLength", desc := "(II)V" } : Jvm.MethodName)) ∈ lw_all := lw_g (lw_at lw_m2 85 rfl) rfl
theorem q431 : (Jvm.Cond.static ({ cls := "java/util/Arrays", name := "checkLength", desc := "(II)V" } : Jvm.MethodName)) ∈ lw_all := lw_g (lw_at lw_m2 86 rfl) rfl
theorem q432 : (Jvm.Cond.code ({ cls := "java/util/Arrays", name := "checkLength", desc := "(II)V" } : Jvm.MethodName) prog_46_method_131_code (2 : Nat) (Option.none : Option Jvm.ClassFile.FieldType)) ∈ lw_all := lw_g (lw_at lw_m2 87 rfl) rfl
theorem q433 : (Jvm.Cond.classLink "java/util/Arrays" (43 : Nat) "java/lang/IllegalArgumentException") ∈ lw_all := lw_g (lw_at lw_m2 88 rfl) rfl
theorem q434 : (Jvm.Cond.classLink "java/util/Arrays" (45 : Nat) "java/lang/StringBuilder") ∈ lw_all := lw_g (lw_at lw_m2 89 rfl) rfl
theorem q435 : (Jvm.Cond.methodLink "java/util/Arrays" (47 : Nat) ({ cls := "java/lang/StringBuilder", name := "<init>", desc := "()V" } : Jvm.MethodName)) ∈ lw_all := lw_g (lw_at lw_m2 90 rfl) rfl
theorem q436 : (Jvm.Cond.methodLink "java/util/Arrays" (54 : Nat) ({ cls := "java/lang/StringBuilder", name := "append", desc := "(I)Ljava/lang/StringBuilder;" } : Jvm.MethodName)) ∈ lw_all := lw_g (lw_at lw_m2 91 rfl) rfl
theorem q437 : (Jvm.Cond.stringRef "java/util/Arrays" (337 : Nat) " > ") ∈ lw_tbl := lw_at lw_m2 92 rfl
theorem q438 : (Jvm.Cond.methodLink "java/util/Arrays" (50 : Nat) ({ cls := "java/lang/StringBuilder", name := "append", desc := "(Ljava/lang/String;)Ljava/lang/StringBuilder;" } : Jvm.MethodName)) ∈ lw_all := lw_g (lw_at lw_m2 93 rfl) rfl
theorem q439 : (Jvm.Cond.methodLink "java/util/Arrays" (61 : Nat) ({ cls := "java/lang/StringBuilder", name := "toString", desc := "()Ljava/lang/String;" } : Jvm.MethodName)) ∈ lw_all := lw_g (lw_at lw_m2 94 rfl) rfl
theorem q440 : (Jvm.Cond.methodLink "java/util/Arrays" (65 : Nat) ({ cls := "java/lang/IllegalArgumentException", name := "<init>", desc := "(Ljava/lang/String;)V" } : Jvm.MethodName)) ∈ lw_all := lw_g (lw_at lw_m2 95 rfl) rfl
theorem q662 : (Jvm.Cond.static ({ cls := "java/util/Arrays", name := "copyOf", desc := "([Ljava/lang/Object;I)[Ljava/lang/Object;" } : Jvm.MethodName)) ∈ lw_all := lw_g (lw_at lw_m3 77 rfl) rfl
theorem q663 : (Jvm.Cond.code ({ cls := "java/util/Arrays", name := "copyOf", desc := "([Ljava/lang/Object;I)[Ljava/lang/Object;" } : Jvm.MethodName) prog_46_method_119_code (2 : Nat) (Option.some (Jvm.ClassFile.FieldType.array (Jvm.ClassFile.FieldType.object "java/lang/Object")))) ∈ lw_all := lw_g (lw_at lw_m3 78 rfl) rfl
theorem q664 : (Jvm.Cond.methodLink "java/util/Arrays" (86 : Nat) ({ cls := "java/lang/Object", name := "getClass", desc := "()Ljava/lang/Class;" } : Jvm.MethodName)) ∈ lw_all := lw_g (lw_at lw_m3 79 rfl) rfl
theorem q691 : (Jvm.Cond.methodLink "java/util/Arrays" (300 : Nat) ({ cls := "java/util/Arrays", name := "copyOf", desc := "([Ljava/lang/Object;ILjava/lang/Class;)[Ljava/lang/Object;" } : Jvm.MethodName)) ∈ lw_all := lw_g (lw_at lw_m3 106 rfl) rfl
theorem q692 : (Jvm.Cond.static ({ cls := "java/util/Arrays", name := "copyOf", desc := "([Ljava/lang/Object;ILjava/lang/Class;)[Ljava/lang/Object;" } : Jvm.MethodName)) ∈ lw_all := lw_g (lw_at lw_m3 107 rfl) rfl
theorem q693 : (Jvm.Cond.code ({ cls := "java/util/Arrays", name := "copyOf", desc := "([Ljava/lang/Object;ILjava/lang/Class;)[Ljava/lang/Object;" } : Jvm.MethodName) prog_46_method_120_code (4 : Nat) (Option.some (Jvm.ClassFile.FieldType.array (Jvm.ClassFile.FieldType.object "java/lang/Object")))) ∈ lw_all := lw_g (lw_at lw_m3 108 rfl) rfl
theorem q694 : (Jvm.Cond.classLink "java/util/Arrays" (110 : Nat) "[Ljava/lang/Object;") ∈ lw_all := lw_g (lw_at lw_m3 109 rfl) rfl
theorem q695 : (Jvm.Cond.classLink "java/util/Arrays" (2 : Nat) "java/lang/Object") ∈ lw_all := lw_g (lw_at lw_m3 110 rfl) rfl

/-! jdk/internal/util/Preconditions -/
set_option maxRecDepth 100000
def RJ14 : String := "jdk/internal/util/Preconditions"
abbrev cJ14_checkFromToIndex : ByteArray := prog_54_method_12_code
def yJ14_checkFromToIndex : MethodName := ⟨RJ14, "checkFromToIndex", "(IIILjava/util/function/BiFunction;)I"⟩
def dkwJ14_checkFromToIndex_0 : List UInt8 := [26, 155, 0, 13, 26, 27, 163, 0, 8, 27, 28, 164, 0, 11, 45, 26, 27, 28, 184, 0, 99, 191, 26, 172]
abbrev dktJ14_checkFromToIndex_0 : List UInt8 := dkwJ14_checkFromToIndex_0 ++ []
theorem dksJ14_checkFromToIndex_0 : cJ14_checkFromToIndex.data.toList.drop 0 = dktJ14_checkFromToIndex_0 := by decide +kernel
theorem dJ14_checkFromToIndex_0 : decode cJ14_checkFromToIndex 0 = .ok (.iload_n 0, 1) := dk_26 (dk_at dksJ14_checkFromToIndex_0 0 rfl rfl)
theorem dJ14_checkFromToIndex_1 : decode cJ14_checkFromToIndex 1 = .ok (.ifCond .lt 13, 3) := dk_155 0 13 (dk_at dksJ14_checkFromToIndex_0 1 rfl rfl)
theorem dJ14_checkFromToIndex_4 : decode cJ14_checkFromToIndex 4 = .ok (.iload_n 0, 1) := dk_26 (dk_at dksJ14_checkFromToIndex_0 4 rfl rfl)
theorem dJ14_checkFromToIndex_5 : decode cJ14_checkFromToIndex 5 = .ok (.iload_n 1, 1) := dk_27 (dk_at dksJ14_checkFromToIndex_0 5 rfl rfl)
theorem dJ14_checkFromToIndex_6 : decode cJ14_checkFromToIndex 6 = .ok (.if_icmp .gt 8, 3) := dk_163 0 8 (dk_at dksJ14_checkFromToIndex_0 6 rfl rfl)
theorem dJ14_checkFromToIndex_9 : decode cJ14_checkFromToIndex 9 = .ok (.iload_n 1, 1) := dk_27 (dk_at dksJ14_checkFromToIndex_0 9 rfl rfl)
theorem dJ14_checkFromToIndex_10 : decode cJ14_checkFromToIndex 10 = .ok (.iload_n 2, 1) := dk_28 (dk_at dksJ14_checkFromToIndex_0 10 rfl rfl)
theorem dJ14_checkFromToIndex_11 : decode cJ14_checkFromToIndex 11 = .ok (.if_icmp .le 11, 3) := dk_164 0 11 (dk_at dksJ14_checkFromToIndex_0 11 rfl rfl)
theorem dJ14_checkFromToIndex_14 : decode cJ14_checkFromToIndex 14 = .ok (.aload_n 3, 1) := dk_45 (dk_at dksJ14_checkFromToIndex_0 14 rfl rfl)
theorem dJ14_checkFromToIndex_15 : decode cJ14_checkFromToIndex 15 = .ok (.iload_n 0, 1) := dk_26 (dk_at dksJ14_checkFromToIndex_0 15 rfl rfl)
theorem dJ14_checkFromToIndex_16 : decode cJ14_checkFromToIndex 16 = .ok (.iload_n 1, 1) := dk_27 (dk_at dksJ14_checkFromToIndex_0 16 rfl rfl)
theorem dJ14_checkFromToIndex_17 : decode cJ14_checkFromToIndex 17 = .ok (.iload_n 2, 1) := dk_28 (dk_at dksJ14_checkFromToIndex_0 17 rfl rfl)
theorem dJ14_checkFromToIndex_18 : decode cJ14_checkFromToIndex 18 = .ok (.invokestatic 99, 3) := dk_184 0 99 (dk_at dksJ14_checkFromToIndex_0 18 rfl rfl)
theorem dJ14_checkFromToIndex_21 : decode cJ14_checkFromToIndex 21 = .ok (.athrow, 1) := dk_191 (dk_at dksJ14_checkFromToIndex_0 21 rfl rfl)
theorem dJ14_checkFromToIndex_22 : decode cJ14_checkFromToIndex 22 = .ok (.iload_n 0, 1) := dk_26 (dk_at dksJ14_checkFromToIndex_0 22 rfl rfl)
theorem dJ14_checkFromToIndex_23 : decode cJ14_checkFromToIndex 23 = .ok (.ireturn, 1) := dk_172 (dk_at dksJ14_checkFromToIndex_0 23 rfl rfl)
abbrev cJ14_checkFromIndexSize : ByteArray := prog_54_method_13_code
def yJ14_checkFromIndexSize : MethodName := ⟨RJ14, "checkFromIndexSize", "(IIILjava/util/function/BiFunction;)I"⟩
def dkwJ14_checkFromIndexSize_1 : List UInt8 := [172]
abbrev dktJ14_checkFromIndexSize_1 : List UInt8 := dkwJ14_checkFromIndexSize_1 ++ []
def dkwJ14_checkFromIndexSize_0 : List UInt8 := [28, 26, 128, 27, 128, 155, 0, 10, 27, 28, 26, 100, 164, 0, 11, 45, 26, 27, 28, 184, 0, 103, 191, 26]
abbrev dktJ14_checkFromIndexSize_0 : List UInt8 := dkwJ14_checkFromIndexSize_0 ++ dktJ14_checkFromIndexSize_1
theorem dksJ14_checkFromIndexSize_0 : cJ14_checkFromIndexSize.data.toList.drop 0 = dktJ14_checkFromIndexSize_0 := by decide +kernel
theorem dksJ14_checkFromIndexSize_1 : cJ14_checkFromIndexSize.data.toList.drop 24 = dktJ14_checkFromIndexSize_1 := dk_seg dksJ14_checkFromIndexSize_0 24 rfl rfl
theorem dJ14_checkFromIndexSize_0 : decode cJ14_checkFromIndexSize 0 = .ok (.iload_n 2, 1) := dk_28 (dk_at dksJ14_checkFromIndexSize_0 0 rfl rfl)
theorem dJ14_checkFromIndexSize_1 : decode cJ14_checkFromIndexSize 1 = .ok (.iload_n 0, 1) := dk_26 (dk_at dksJ14_checkFromIndexSize_0 1 rfl rfl)
theorem dJ14_checkFromIndexSize_2 : decode cJ14_checkFromIndexSize 2 = .ok (.ior, 1) := dk_128 (dk_at dksJ14_checkFromIndexSize_0 2 rfl rfl)
theorem dJ14_checkFromIndexSize_3 : decode cJ14_checkFromIndexSize 3 = .ok (.iload_n 1, 1) := dk_27 (dk_at dksJ14_checkFromIndexSize_0 3 rfl rfl)
theorem dJ14_checkFromIndexSize_4 : decode cJ14_checkFromIndexSize 4 = .ok (.ior, 1) := dk_128 (dk_at dksJ14_checkFromIndexSize_0 4 rfl rfl)
theorem dJ14_checkFromIndexSize_5 : decode cJ14_checkFromIndexSize 5 = .ok (.ifCond .lt 10, 3) := dk_155 0 10 (dk_at dksJ14_checkFromIndexSize_0 5 rfl rfl)
theorem dJ14_checkFromIndexSize_8 : decode cJ14_checkFromIndexSize 8 = .ok (.iload_n 1, 1) := dk_27 (dk_at dksJ14_checkFromIndexSize_0 8 rfl rfl)
theorem dJ14_checkFromIndexSize_9 : decode cJ14_checkFromIndexSize 9 = .ok (.iload_n 2, 1) := dk_28 (dk_at dksJ14_checkFromIndexSize_0 9 rfl rfl)
theorem dJ14_checkFromIndexSize_10 : decode cJ14_checkFromIndexSize 10 = .ok (.iload_n 0, 1) := dk_26 (dk_at dksJ14_checkFromIndexSize_0 10 rfl rfl)
theorem dJ14_checkFromIndexSize_11 : decode cJ14_checkFromIndexSize 11 = .ok (.isub, 1) := dk_100 (dk_at dksJ14_checkFromIndexSize_0 11 rfl rfl)
theorem dJ14_checkFromIndexSize_12 : decode cJ14_checkFromIndexSize 12 = .ok (.if_icmp .le 11, 3) := dk_164 0 11 (dk_at dksJ14_checkFromIndexSize_0 12 rfl rfl)
theorem dJ14_checkFromIndexSize_15 : decode cJ14_checkFromIndexSize 15 = .ok (.aload_n 3, 1) := dk_45 (dk_at dksJ14_checkFromIndexSize_0 15 rfl rfl)
theorem dJ14_checkFromIndexSize_16 : decode cJ14_checkFromIndexSize 16 = .ok (.iload_n 0, 1) := dk_26 (dk_at dksJ14_checkFromIndexSize_0 16 rfl rfl)
theorem dJ14_checkFromIndexSize_17 : decode cJ14_checkFromIndexSize 17 = .ok (.iload_n 1, 1) := dk_27 (dk_at dksJ14_checkFromIndexSize_0 17 rfl rfl)
theorem dJ14_checkFromIndexSize_18 : decode cJ14_checkFromIndexSize 18 = .ok (.iload_n 2, 1) := dk_28 (dk_at dksJ14_checkFromIndexSize_0 18 rfl rfl)
theorem dJ14_checkFromIndexSize_19 : decode cJ14_checkFromIndexSize 19 = .ok (.invokestatic 103, 3) := dk_184 0 103 (dk_at dksJ14_checkFromIndexSize_0 19 rfl rfl)
theorem dJ14_checkFromIndexSize_22 : decode cJ14_checkFromIndexSize 22 = .ok (.athrow, 1) := dk_191 (dk_at dksJ14_checkFromIndexSize_0 22 rfl rfl)
theorem dJ14_checkFromIndexSize_23 : decode cJ14_checkFromIndexSize 23 = .ok (.iload_n 0, 1) := dk_26 (dk_at dksJ14_checkFromIndexSize_0 23 rfl rfl)
theorem dJ14_checkFromIndexSize_24 : decode cJ14_checkFromIndexSize 24 = .ok (.ireturn, 1) := dk_172 (dk_at dksJ14_checkFromIndexSize_1 0 rfl rfl)
abbrev cJ14_checkIndex : ByteArray := prog_54_method_11_code
def yJ14_checkIndex : MethodName := ⟨RJ14, "checkIndex", "(IILjava/util/function/BiFunction;)I"⟩
def dkwJ14_checkIndex_0 : List UInt8 := [26, 155, 0, 8, 26, 27, 161, 0, 10, 44, 26, 27, 184, 0, 95, 191, 26, 172]
abbrev dktJ14_checkIndex_0 : List UInt8 := dkwJ14_checkIndex_0 ++ []
theorem dksJ14_checkIndex_0 : cJ14_checkIndex.data.toList.drop 0 = dktJ14_checkIndex_0 := by decide +kernel
theorem dJ14_checkIndex_0 : decode cJ14_checkIndex 0 = .ok (.iload_n 0, 1) := dk_26 (dk_at dksJ14_checkIndex_0 0 rfl rfl)
theorem dJ14_checkIndex_1 : decode cJ14_checkIndex 1 = .ok (.ifCond .lt 8, 3) := dk_155 0 8 (dk_at dksJ14_checkIndex_0 1 rfl rfl)
theorem dJ14_checkIndex_4 : decode cJ14_checkIndex 4 = .ok (.iload_n 0, 1) := dk_26 (dk_at dksJ14_checkIndex_0 4 rfl rfl)
theorem dJ14_checkIndex_5 : decode cJ14_checkIndex 5 = .ok (.iload_n 1, 1) := dk_27 (dk_at dksJ14_checkIndex_0 5 rfl rfl)
theorem dJ14_checkIndex_6 : decode cJ14_checkIndex 6 = .ok (.if_icmp .lt 10, 3) := dk_161 0 10 (dk_at dksJ14_checkIndex_0 6 rfl rfl)
theorem dJ14_checkIndex_9 : decode cJ14_checkIndex 9 = .ok (.aload_n 2, 1) := dk_44 (dk_at dksJ14_checkIndex_0 9 rfl rfl)
theorem dJ14_checkIndex_10 : decode cJ14_checkIndex 10 = .ok (.iload_n 0, 1) := dk_26 (dk_at dksJ14_checkIndex_0 10 rfl rfl)
theorem dJ14_checkIndex_11 : decode cJ14_checkIndex 11 = .ok (.iload_n 1, 1) := dk_27 (dk_at dksJ14_checkIndex_0 11 rfl rfl)
theorem dJ14_checkIndex_12 : decode cJ14_checkIndex 12 = .ok (.invokestatic 95, 3) := dk_184 0 95 (dk_at dksJ14_checkIndex_0 12 rfl rfl)
theorem dJ14_checkIndex_15 : decode cJ14_checkIndex 15 = .ok (.athrow, 1) := dk_191 (dk_at dksJ14_checkIndex_0 15 rfl rfl)
theorem dJ14_checkIndex_16 : decode cJ14_checkIndex 16 = .ok (.iload_n 0, 1) := dk_26 (dk_at dksJ14_checkIndex_0 16 rfl rfl)
theorem dJ14_checkIndex_17 : decode cJ14_checkIndex 17 = .ok (.ireturn, 1) := dk_172 (dk_at dksJ14_checkIndex_0 17 rfl rfl)
theorem q123 : (Jvm.Cond.initialized "jdk/internal/util/Preconditions") ∈ lw_all := lw_g (lw_at lw_m1 18 rfl) rfl
theorem q316 : (Jvm.Cond.laysStatic "jdk/internal/util/Preconditions" "SIOOBE_FORMATTER" "Ljava/util/function/BiFunction;") ∈ lw_tbl := lw_at lw_m1 211 rfl
theorem q318 : (Jvm.Cond.static ({ cls := "jdk/internal/util/Preconditions", name := "checkFromToIndex", desc := "(IIILjava/util/function/BiFunction;)I" } : Jvm.MethodName)) ∈ lw_all := lw_g (lw_at lw_m1 213 rfl) rfl
theorem q319 : (Jvm.Cond.code ({ cls := "jdk/internal/util/Preconditions", name := "checkFromToIndex", desc := "(IIILjava/util/function/BiFunction;)I" } : Jvm.MethodName) prog_54_method_12_code (4 : Nat) (Option.some Jvm.ClassFile.FieldType.int)) ∈ lw_all := lw_g (lw_at lw_m1 214 rfl) rfl
theorem q364 : (Jvm.Cond.static ({ cls := "jdk/internal/util/Preconditions", name := "checkFromIndexSize", desc := "(IIILjava/util/function/BiFunction;)I" } : Jvm.MethodName)) ∈ lw_all := lw_g (lw_at lw_m2 19 rfl) rfl
theorem q365 : (Jvm.Cond.code ({ cls := "jdk/internal/util/Preconditions", name := "checkFromIndexSize", desc := "(IIILjava/util/function/BiFunction;)I" } : Jvm.MethodName) prog_54_method_13_code (4 : Nat) (Option.some Jvm.ClassFile.FieldType.int)) ∈ lw_all := lw_g (lw_at lw_m2 20 rfl) rfl
theorem q803 : (Jvm.Cond.static ({ cls := "jdk/internal/util/Preconditions", name := "checkIndex", desc := "(IILjava/util/function/BiFunction;)I" } : Jvm.MethodName)) ∈ lw_all := lw_g (lw_at lw_m3 218 rfl) rfl
theorem q804 : (Jvm.Cond.code ({ cls := "jdk/internal/util/Preconditions", name := "checkIndex", desc := "(IILjava/util/function/BiFunction;)I" } : Jvm.MethodName) prog_54_method_11_code (3 : Nat) (Option.some Jvm.ClassFile.FieldType.int)) ∈ lw_all := lw_g (lw_at lw_m3 219 rfl) rfl

/-! java/lang/StringLatin1 -/
set_option maxRecDepth 100000
def RJ15 : String := "java/lang/StringLatin1"
abbrev cJ15_inflate : ByteArray := prog_37_method_50_code
def yJ15_inflate : MethodName := ⟨RJ15, "inflate", "([BI[BII)V"⟩
def dkwJ15_inflate_0 : List UInt8 := [42, 27, 44, 29, 21, 4, 184, 0, 240, 177]
abbrev dktJ15_inflate_0 : List UInt8 := dkwJ15_inflate_0 ++ []
theorem dksJ15_inflate_0 : cJ15_inflate.data.toList.drop 0 = dktJ15_inflate_0 := by decide +kernel
theorem dJ15_inflate_0 : decode cJ15_inflate 0 = .ok (.aload_n 0, 1) := dk_42 (dk_at dksJ15_inflate_0 0 rfl rfl)
theorem dJ15_inflate_1 : decode cJ15_inflate 1 = .ok (.iload_n 1, 1) := dk_27 (dk_at dksJ15_inflate_0 1 rfl rfl)
theorem dJ15_inflate_2 : decode cJ15_inflate 2 = .ok (.aload_n 2, 1) := dk_44 (dk_at dksJ15_inflate_0 2 rfl rfl)
theorem dJ15_inflate_3 : decode cJ15_inflate 3 = .ok (.iload_n 3, 1) := dk_29 (dk_at dksJ15_inflate_0 3 rfl rfl)
theorem dJ15_inflate_4 : decode cJ15_inflate 4 = .ok (.iload 4, 2) := dk_21 4 (dk_at dksJ15_inflate_0 4 rfl rfl)
theorem dJ15_inflate_6 : decode cJ15_inflate 6 = .ok (.invokestatic 240, 3) := dk_184 0 240 (dk_at dksJ15_inflate_0 6 rfl rfl)
theorem dJ15_inflate_9 : decode cJ15_inflate 9 = .ok (.return_, 1) := dk_177 (dk_at dksJ15_inflate_0 9 rfl rfl)
abbrev cJ15_canEncode : ByteArray := prog_37_method_3_code
def yJ15_canEncode : MethodName := ⟨RJ15, "canEncode", "(C)Z"⟩
def dkwJ15_canEncode_0 : List UInt8 := [26, 17, 0, 255, 163, 0, 7, 4, 167, 0, 4, 3, 172]
abbrev dktJ15_canEncode_0 : List UInt8 := dkwJ15_canEncode_0 ++ []
theorem dksJ15_canEncode_0 : cJ15_canEncode.data.toList.drop 0 = dktJ15_canEncode_0 := by decide +kernel
theorem dJ15_canEncode_0 : decode cJ15_canEncode 0 = .ok (.iload_n 0, 1) := dk_26 (dk_at dksJ15_canEncode_0 0 rfl rfl)
theorem dJ15_canEncode_1 : decode cJ15_canEncode 1 = .ok (.sipush 255, 3) := dk_17 0 255 (dk_at dksJ15_canEncode_0 1 rfl rfl)
theorem dJ15_canEncode_4 : decode cJ15_canEncode 4 = .ok (.if_icmp .gt 7, 3) := dk_163 0 7 (dk_at dksJ15_canEncode_0 4 rfl rfl)
theorem dJ15_canEncode_7 : decode cJ15_canEncode 7 = .ok (.iconst 1, 1) := dk_4 (dk_at dksJ15_canEncode_0 7 rfl rfl)
theorem dJ15_canEncode_8 : decode cJ15_canEncode 8 = .ok (.goto 4, 3) := dk_167 0 4 (dk_at dksJ15_canEncode_0 8 rfl rfl)
theorem dJ15_canEncode_11 : decode cJ15_canEncode 11 = .ok (.iconst 0, 1) := dk_3 (dk_at dksJ15_canEncode_0 11 rfl rfl)
theorem dJ15_canEncode_12 : decode cJ15_canEncode 12 = .ok (.ireturn, 1) := dk_172 (dk_at dksJ15_canEncode_0 12 rfl rfl)
abbrev cJ15_toBytes : ByteArray := prog_37_method_46_code
def yJ15_toBytes : MethodName := ⟨RJ15, "toBytes", "(C)[B"⟩
def dkwJ15_toBytes_0 : List UInt8 := [4, 188, 8, 89, 3, 26, 145, 84, 176]
abbrev dktJ15_toBytes_0 : List UInt8 := dkwJ15_toBytes_0 ++ []
theorem dksJ15_toBytes_0 : cJ15_toBytes.data.toList.drop 0 = dktJ15_toBytes_0 := by decide +kernel
theorem dJ15_toBytes_0 : decode cJ15_toBytes 0 = .ok (.iconst 1, 1) := dk_4 (dk_at dksJ15_toBytes_0 0 rfl rfl)
theorem dJ15_toBytes_1 : decode cJ15_toBytes 1 = .ok (.newarray .byte, 2) := dk_188_8 (dk_at dksJ15_toBytes_0 1 rfl rfl)
theorem dJ15_toBytes_3 : decode cJ15_toBytes 3 = .ok (.dup, 1) := dk_89 (dk_at dksJ15_toBytes_0 3 rfl rfl)
theorem dJ15_toBytes_4 : decode cJ15_toBytes 4 = .ok (.iconst 0, 1) := dk_3 (dk_at dksJ15_toBytes_0 4 rfl rfl)
theorem dJ15_toBytes_5 : decode cJ15_toBytes 5 = .ok (.iload_n 0, 1) := dk_26 (dk_at dksJ15_toBytes_0 5 rfl rfl)
theorem dJ15_toBytes_6 : decode cJ15_toBytes 6 = .ok (.i2b, 1) := dk_145 (dk_at dksJ15_toBytes_0 6 rfl rfl)
theorem dJ15_toBytes_7 : decode cJ15_toBytes 7 = .ok (.bastore, 1) := dk_84 (dk_at dksJ15_toBytes_0 7 rfl rfl)
theorem dJ15_toBytes_8 : decode cJ15_toBytes 8 = .ok (.areturn, 1) := dk_176 (dk_at dksJ15_toBytes_0 8 rfl rfl)
abbrev cJ15_equals : ByteArray := prog_37_method_13_code
def yJ15_equals : MethodName := ⟨RJ15, "equals", "([B[B)Z"⟩
def dkwJ15_equals_1 : List UInt8 := [3, 172, 132, 2, 1, 167, 255, 236, 4, 172, 3, 172]
abbrev dktJ15_equals_1 : List UInt8 := dkwJ15_equals_1 ++ []
def dkwJ15_equals_0 : List UInt8 := [42, 190, 43, 190, 160, 0, 30, 3, 61, 28, 42, 190, 162, 0, 20, 42, 28, 51, 43, 28, 51, 159, 0, 5]
abbrev dktJ15_equals_0 : List UInt8 := dkwJ15_equals_0 ++ dktJ15_equals_1
theorem dksJ15_equals_0 : cJ15_equals.data.toList.drop 0 = dktJ15_equals_0 := by decide +kernel
theorem dksJ15_equals_1 : cJ15_equals.data.toList.drop 24 = dktJ15_equals_1 := dk_seg dksJ15_equals_0 24 rfl rfl
theorem dJ15_equals_0 : decode cJ15_equals 0 = .ok (.aload_n 0, 1) := dk_42 (dk_at dksJ15_equals_0 0 rfl rfl)
theorem dJ15_equals_1 : decode cJ15_equals 1 = .ok (.arraylength, 1) := dk_190 (dk_at dksJ15_equals_0 1 rfl rfl)
theorem dJ15_equals_2 : decode cJ15_equals 2 = .ok (.aload_n 1, 1) := dk_43 (dk_at dksJ15_equals_0 2 rfl rfl)
theorem dJ15_equals_3 : decode cJ15_equals 3 = .ok (.arraylength, 1) := dk_190 (dk_at dksJ15_equals_0 3 rfl rfl)
theorem dJ15_equals_4 : decode cJ15_equals 4 = .ok (.if_icmp .ne 30, 3) := dk_160 0 30 (dk_at dksJ15_equals_0 4 rfl rfl)
theorem dJ15_equals_7 : decode cJ15_equals 7 = .ok (.iconst 0, 1) := dk_3 (dk_at dksJ15_equals_0 7 rfl rfl)
theorem dJ15_equals_8 : decode cJ15_equals 8 = .ok (.istore_n 2, 1) := dk_61 (dk_at dksJ15_equals_0 8 rfl rfl)
theorem dJ15_equals_9 : decode cJ15_equals 9 = .ok (.iload_n 2, 1) := dk_28 (dk_at dksJ15_equals_0 9 rfl rfl)
theorem dJ15_equals_10 : decode cJ15_equals 10 = .ok (.aload_n 0, 1) := dk_42 (dk_at dksJ15_equals_0 10 rfl rfl)
theorem dJ15_equals_11 : decode cJ15_equals 11 = .ok (.arraylength, 1) := dk_190 (dk_at dksJ15_equals_0 11 rfl rfl)
theorem dJ15_equals_12 : decode cJ15_equals 12 = .ok (.if_icmp .ge 20, 3) := dk_162 0 20 (dk_at dksJ15_equals_0 12 rfl rfl)
theorem dJ15_equals_15 : decode cJ15_equals 15 = .ok (.aload_n 0, 1) := dk_42 (dk_at dksJ15_equals_0 15 rfl rfl)
theorem dJ15_equals_16 : decode cJ15_equals 16 = .ok (.iload_n 2, 1) := dk_28 (dk_at dksJ15_equals_0 16 rfl rfl)
theorem dJ15_equals_17 : decode cJ15_equals 17 = .ok (.baload, 1) := dk_51 (dk_at dksJ15_equals_0 17 rfl rfl)
theorem dJ15_equals_18 : decode cJ15_equals 18 = .ok (.aload_n 1, 1) := dk_43 (dk_at dksJ15_equals_0 18 rfl rfl)
theorem dJ15_equals_19 : decode cJ15_equals 19 = .ok (.iload_n 2, 1) := dk_28 (dk_at dksJ15_equals_0 19 rfl rfl)
theorem dJ15_equals_20 : decode cJ15_equals 20 = .ok (.baload, 1) := dk_51 (dk_at dksJ15_equals_0 20 rfl rfl)
theorem dJ15_equals_21 : decode cJ15_equals 21 = .ok (.if_icmp .eq 5, 3) := dk_159 0 5 (dk_at dksJ15_equals_0 21 rfl rfl)
theorem dJ15_equals_24 : decode cJ15_equals 24 = .ok (.iconst 0, 1) := dk_3 (dk_at dksJ15_equals_1 0 rfl rfl)
theorem dJ15_equals_25 : decode cJ15_equals 25 = .ok (.ireturn, 1) := dk_172 (dk_at dksJ15_equals_1 1 rfl rfl)
theorem dJ15_equals_26 : decode cJ15_equals 26 = .ok (.iinc 2 1, 3) := dk_132 2 1 (dk_at dksJ15_equals_1 2 rfl rfl)
theorem dJ15_equals_29 : decode cJ15_equals 29 = .ok (.goto (-20), 3) := dk_167 255 236 (dk_at dksJ15_equals_1 5 rfl rfl)
theorem dJ15_equals_32 : decode cJ15_equals 32 = .ok (.iconst 1, 1) := dk_4 (dk_at dksJ15_equals_1 8 rfl rfl)
theorem dJ15_equals_33 : decode cJ15_equals 33 = .ok (.ireturn, 1) := dk_172 (dk_at dksJ15_equals_1 9 rfl rfl)
theorem dJ15_equals_34 : decode cJ15_equals 34 = .ok (.iconst 0, 1) := dk_3 (dk_at dksJ15_equals_1 10 rfl rfl)
theorem dJ15_equals_35 : decode cJ15_equals 35 = .ok (.ireturn, 1) := dk_172 (dk_at dksJ15_equals_1 11 rfl rfl)
abbrev cJ15_charAt : ByteArray := prog_37_method_2_code
def yJ15_charAt : MethodName := ⟨RJ15, "charAt", "([BI)C"⟩
def dkwJ15_charAt_0 : List UInt8 := [27, 42, 190, 184, 0, 9, 42, 27, 51, 17, 0, 255, 126, 146, 172]
abbrev dktJ15_charAt_0 : List UInt8 := dkwJ15_charAt_0 ++ []
theorem dksJ15_charAt_0 : cJ15_charAt.data.toList.drop 0 = dktJ15_charAt_0 := by decide +kernel
theorem dJ15_charAt_0 : decode cJ15_charAt 0 = .ok (.iload_n 1, 1) := dk_27 (dk_at dksJ15_charAt_0 0 rfl rfl)
theorem dJ15_charAt_1 : decode cJ15_charAt 1 = .ok (.aload_n 0, 1) := dk_42 (dk_at dksJ15_charAt_0 1 rfl rfl)
theorem dJ15_charAt_2 : decode cJ15_charAt 2 = .ok (.arraylength, 1) := dk_190 (dk_at dksJ15_charAt_0 2 rfl rfl)
theorem dJ15_charAt_3 : decode cJ15_charAt 3 = .ok (.invokestatic 9, 3) := dk_184 0 9 (dk_at dksJ15_charAt_0 3 rfl rfl)
theorem dJ15_charAt_6 : decode cJ15_charAt 6 = .ok (.aload_n 0, 1) := dk_42 (dk_at dksJ15_charAt_0 6 rfl rfl)
theorem dJ15_charAt_7 : decode cJ15_charAt 7 = .ok (.iload_n 1, 1) := dk_27 (dk_at dksJ15_charAt_0 7 rfl rfl)
theorem dJ15_charAt_8 : decode cJ15_charAt 8 = .ok (.baload, 1) := dk_51 (dk_at dksJ15_charAt_0 8 rfl rfl)
theorem dJ15_charAt_9 : decode cJ15_charAt 9 = .ok (.sipush 255, 3) := dk_17 0 255 (dk_at dksJ15_charAt_0 9 rfl rfl)
theorem dJ15_charAt_12 : decode cJ15_charAt 12 = .ok (.iand, 1) := dk_126 (dk_at dksJ15_charAt_0 12 rfl rfl)
theorem dJ15_charAt_13 : decode cJ15_charAt 13 = .ok (.i2c, 1) := dk_146 (dk_at dksJ15_charAt_0 13 rfl rfl)
theorem dJ15_charAt_14 : decode cJ15_charAt 14 = .ok (.ireturn, 1) := dk_172 (dk_at dksJ15_charAt_0 14 rfl rfl)
theorem q124 : (Jvm.Cond.initialized "java/lang/StringLatin1") ∈ lw_all := lw_g (lw_at lw_m1 19 rfl) rfl
theorem q352 : (Jvm.Cond.static ({ cls := "java/lang/StringLatin1", name := "inflate", desc := "([BI[BII)V" } : Jvm.MethodName)) ∈ lw_all := lw_g (lw_at lw_m2 7 rfl) rfl
theorem q353 : (Jvm.Cond.code ({ cls := "java/lang/StringLatin1", name := "inflate", desc := "([BI[BII)V" } : Jvm.MethodName) prog_37_method_50_code (5 : Nat) (Option.none : Option Jvm.ClassFile.FieldType)) ∈ lw_all := lw_g (lw_at lw_m2 8 rfl) rfl
theorem q354 : (Jvm.Cond.methodLink "java/lang/StringLatin1" (240 : Nat) ({ cls := "java/lang/StringUTF16", name := "inflate", desc := "([BI[BII)V" } : Jvm.MethodName)) ∈ lw_all := lw_g (lw_at lw_m2 9 rfl) rfl
theorem q941 : (Jvm.Cond.static ({ cls := "java/lang/StringLatin1", name := "canEncode", desc := "(C)Z" } : Jvm.MethodName)) ∈ lw_all := lw_g (lw_at lw_m4 116 rfl) rfl
theorem q942 : (Jvm.Cond.code ({ cls := "java/lang/StringLatin1", name := "canEncode", desc := "(C)Z" } : Jvm.MethodName) prog_37_method_3_code (1 : Nat) (Option.some Jvm.ClassFile.FieldType.boolean)) ∈ lw_all := lw_g (lw_at lw_m4 117 rfl) rfl
theorem q974 : (Jvm.Cond.static ({ cls := "java/lang/StringLatin1", name := "toBytes", desc := "(C)[B" } : Jvm.MethodName)) ∈ lw_all := lw_g (lw_at lw_m4 149 rfl) rfl
theorem q975 : (Jvm.Cond.code ({ cls := "java/lang/StringLatin1", name := "toBytes", desc := "(C)[B" } : Jvm.MethodName) prog_37_method_46_code (1 : Nat) (Option.some (Jvm.ClassFile.FieldType.array Jvm.ClassFile.FieldType.byte))) ∈ lw_all := lw_g (lw_at lw_m4 150 rfl) rfl
theorem q1026 : (Jvm.Cond.static ({ cls := "java/lang/StringLatin1", name := "equals", desc := "([B[B)Z" } : Jvm.MethodName)) ∈ lw_all := lw_g (lw_at lw_m4 201 rfl) rfl
theorem q1027 : (Jvm.Cond.code ({ cls := "java/lang/StringLatin1", name := "equals", desc := "([B[B)Z" } : Jvm.MethodName) prog_37_method_13_code (3 : Nat) (Option.some Jvm.ClassFile.FieldType.boolean)) ∈ lw_all := lw_g (lw_at lw_m4 202 rfl) rfl
theorem q1157 : (Jvm.Cond.static ({ cls := "java/lang/StringLatin1", name := "charAt", desc := "([BI)C" } : Jvm.MethodName)) ∈ lw_all := lw_g (lw_at lw_m5 92 rfl) rfl
theorem q1158 : (Jvm.Cond.code ({ cls := "java/lang/StringLatin1", name := "charAt", desc := "([BI)C" } : Jvm.MethodName) prog_37_method_2_code (2 : Nat) (Option.some Jvm.ClassFile.FieldType.char)) ∈ lw_all := lw_g (lw_at lw_m5 93 rfl) rfl
theorem q1159 : (Jvm.Cond.methodLink "java/lang/StringLatin1" (9 : Nat) ({ cls := "java/lang/String", name := "checkIndex", desc := "(II)V" } : Jvm.MethodName)) ∈ lw_all := lw_g (lw_at lw_m5 94 rfl) rfl

/-! java/lang/Integer -/
set_option maxRecDepth 100000
def RJ16 : String := "java/lang/Integer"
abbrev cJ16_stringSize : ByteArray := prog_30_method_13_code
def yJ16_stringSize : MethodName := ⟨RJ16, "stringSize", "(I)I"⟩
def dkwJ16_stringSize_1 : List UInt8 := [164, 0, 7, 29, 27, 96, 172, 16, 10, 28, 104, 61, 132, 3, 1, 167, 255, 233, 16, 10, 27, 96, 172]
abbrev dktJ16_stringSize_1 : List UInt8 := dkwJ16_stringSize_1 ++ []
def dkwJ16_stringSize_0 : List UInt8 := [4, 60, 26, 155, 0, 8, 3, 60, 26, 116, 59, 16, 246, 61, 4, 62, 29, 16, 10, 162, 0, 23, 26, 28]
abbrev dktJ16_stringSize_0 : List UInt8 := dkwJ16_stringSize_0 ++ dktJ16_stringSize_1
theorem dksJ16_stringSize_0 : cJ16_stringSize.data.toList.drop 0 = dktJ16_stringSize_0 := by decide +kernel
theorem dksJ16_stringSize_1 : cJ16_stringSize.data.toList.drop 24 = dktJ16_stringSize_1 := dk_seg dksJ16_stringSize_0 24 rfl rfl
theorem dJ16_stringSize_0 : decode cJ16_stringSize 0 = .ok (.iconst 1, 1) := dk_4 (dk_at dksJ16_stringSize_0 0 rfl rfl)
theorem dJ16_stringSize_1 : decode cJ16_stringSize 1 = .ok (.istore_n 1, 1) := dk_60 (dk_at dksJ16_stringSize_0 1 rfl rfl)
theorem dJ16_stringSize_2 : decode cJ16_stringSize 2 = .ok (.iload_n 0, 1) := dk_26 (dk_at dksJ16_stringSize_0 2 rfl rfl)
theorem dJ16_stringSize_3 : decode cJ16_stringSize 3 = .ok (.ifCond .lt 8, 3) := dk_155 0 8 (dk_at dksJ16_stringSize_0 3 rfl rfl)
theorem dJ16_stringSize_6 : decode cJ16_stringSize 6 = .ok (.iconst 0, 1) := dk_3 (dk_at dksJ16_stringSize_0 6 rfl rfl)
theorem dJ16_stringSize_7 : decode cJ16_stringSize 7 = .ok (.istore_n 1, 1) := dk_60 (dk_at dksJ16_stringSize_0 7 rfl rfl)
theorem dJ16_stringSize_8 : decode cJ16_stringSize 8 = .ok (.iload_n 0, 1) := dk_26 (dk_at dksJ16_stringSize_0 8 rfl rfl)
theorem dJ16_stringSize_9 : decode cJ16_stringSize 9 = .ok (.ineg, 1) := dk_116 (dk_at dksJ16_stringSize_0 9 rfl rfl)
theorem dJ16_stringSize_10 : decode cJ16_stringSize 10 = .ok (.istore_n 0, 1) := dk_59 (dk_at dksJ16_stringSize_0 10 rfl rfl)
theorem dJ16_stringSize_11 : decode cJ16_stringSize 11 = .ok (.bipush (-10), 2) := dk_16 246 (dk_at dksJ16_stringSize_0 11 rfl rfl)
theorem dJ16_stringSize_13 : decode cJ16_stringSize 13 = .ok (.istore_n 2, 1) := dk_61 (dk_at dksJ16_stringSize_0 13 rfl rfl)
theorem dJ16_stringSize_14 : decode cJ16_stringSize 14 = .ok (.iconst 1, 1) := dk_4 (dk_at dksJ16_stringSize_0 14 rfl rfl)
theorem dJ16_stringSize_15 : decode cJ16_stringSize 15 = .ok (.istore_n 3, 1) := dk_62 (dk_at dksJ16_stringSize_0 15 rfl rfl)
theorem dJ16_stringSize_16 : decode cJ16_stringSize 16 = .ok (.iload_n 3, 1) := dk_29 (dk_at dksJ16_stringSize_0 16 rfl rfl)
theorem dJ16_stringSize_17 : decode cJ16_stringSize 17 = .ok (.bipush 10, 2) := dk_16 10 (dk_at dksJ16_stringSize_0 17 rfl rfl)
theorem dJ16_stringSize_19 : decode cJ16_stringSize 19 = .ok (.if_icmp .ge 23, 3) := dk_162 0 23 (dk_at dksJ16_stringSize_0 19 rfl rfl)
theorem dJ16_stringSize_22 : decode cJ16_stringSize 22 = .ok (.iload_n 0, 1) := dk_26 (dk_at dksJ16_stringSize_0 22 rfl rfl)
theorem dJ16_stringSize_23 : decode cJ16_stringSize 23 = .ok (.iload_n 2, 1) := dk_28 (dk_at dksJ16_stringSize_0 23 rfl rfl)
theorem dJ16_stringSize_24 : decode cJ16_stringSize 24 = .ok (.if_icmp .le 7, 3) := dk_164 0 7 (dk_at dksJ16_stringSize_1 0 rfl rfl)
theorem dJ16_stringSize_27 : decode cJ16_stringSize 27 = .ok (.iload_n 3, 1) := dk_29 (dk_at dksJ16_stringSize_1 3 rfl rfl)
theorem dJ16_stringSize_28 : decode cJ16_stringSize 28 = .ok (.iload_n 1, 1) := dk_27 (dk_at dksJ16_stringSize_1 4 rfl rfl)
theorem dJ16_stringSize_29 : decode cJ16_stringSize 29 = .ok (.iadd, 1) := dk_96 (dk_at dksJ16_stringSize_1 5 rfl rfl)
theorem dJ16_stringSize_30 : decode cJ16_stringSize 30 = .ok (.ireturn, 1) := dk_172 (dk_at dksJ16_stringSize_1 6 rfl rfl)
theorem dJ16_stringSize_31 : decode cJ16_stringSize 31 = .ok (.bipush 10, 2) := dk_16 10 (dk_at dksJ16_stringSize_1 7 rfl rfl)
theorem dJ16_stringSize_33 : decode cJ16_stringSize 33 = .ok (.iload_n 2, 1) := dk_28 (dk_at dksJ16_stringSize_1 9 rfl rfl)
theorem dJ16_stringSize_34 : decode cJ16_stringSize 34 = .ok (.imul, 1) := dk_104 (dk_at dksJ16_stringSize_1 10 rfl rfl)
theorem dJ16_stringSize_35 : decode cJ16_stringSize 35 = .ok (.istore_n 2, 1) := dk_61 (dk_at dksJ16_stringSize_1 11 rfl rfl)
theorem dJ16_stringSize_36 : decode cJ16_stringSize 36 = .ok (.iinc 3 1, 3) := dk_132 3 1 (dk_at dksJ16_stringSize_1 12 rfl rfl)
theorem dJ16_stringSize_39 : decode cJ16_stringSize 39 = .ok (.goto (-23), 3) := dk_167 255 233 (dk_at dksJ16_stringSize_1 15 rfl rfl)
theorem dJ16_stringSize_42 : decode cJ16_stringSize 42 = .ok (.bipush 10, 2) := dk_16 10 (dk_at dksJ16_stringSize_1 18 rfl rfl)
theorem dJ16_stringSize_44 : decode cJ16_stringSize 44 = .ok (.iload_n 1, 1) := dk_27 (dk_at dksJ16_stringSize_1 20 rfl rfl)
theorem dJ16_stringSize_45 : decode cJ16_stringSize 45 = .ok (.iadd, 1) := dk_96 (dk_at dksJ16_stringSize_1 21 rfl rfl)
theorem dJ16_stringSize_46 : decode cJ16_stringSize 46 = .ok (.ireturn, 1) := dk_172 (dk_at dksJ16_stringSize_1 22 rfl rfl)
abbrev cJ16_getChars : ByteArray := prog_30_method_12_code
def yJ16_getChars : MethodName := ⟨RJ16, "getChars", "(II[B)I"⟩
def dkwJ16_getChars_5 : List UInt8 := [16, 45, 84, 21, 5, 172]
abbrev dktJ16_getChars_5 : List UInt8 := dkwJ16_getChars_5 ++ []
def dkwJ16_getChars_4 : List UInt8 := [132, 5, 255, 21, 5, 178, 0, 87, 26, 116, 51, 84, 21, 6, 153, 0, 12, 44, 132, 5, 255, 21, 5]
abbrev dktJ16_getChars_4 : List UInt8 := dkwJ16_getChars_4 ++ dktJ16_getChars_5
def dkwJ16_getChars_3 : List UInt8 := [167, 255, 209, 44, 132, 5, 255, 21, 5, 178, 0, 83, 26, 116, 51, 84, 26, 16, 247, 162, 0, 16, 44]
abbrev dktJ16_getChars_3 : List UInt8 := dkwJ16_getChars_3 ++ dktJ16_getChars_4
def dkwJ16_getChars_2 : List UInt8 := [21, 5, 178, 0, 83, 21, 4, 51, 84, 44, 132, 5, 255, 21, 5, 178, 0, 87, 21, 4, 51, 84]
abbrev dktJ16_getChars_2 : List UInt8 := dkwJ16_getChars_2 ++ dktJ16_getChars_3
def dkwJ16_getChars_1 : List UInt8 := [16, 156, 163, 0, 47, 26, 16, 100, 108, 62, 29, 16, 100, 104, 26, 100, 54, 4, 29, 59, 44, 132, 5, 255]
abbrev dktJ16_getChars_1 : List UInt8 := dkwJ16_getChars_1 ++ dktJ16_getChars_2
def dkwJ16_getChars_0 : List UInt8 := [27, 54, 5, 26, 156, 0, 7, 4, 167, 0, 4, 3, 54, 6, 21, 6, 154, 0, 6, 26, 116, 59, 26]
abbrev dktJ16_getChars_0 : List UInt8 := dkwJ16_getChars_0 ++ dktJ16_getChars_1
theorem dksJ16_getChars_0 : cJ16_getChars.data.toList.drop 0 = dktJ16_getChars_0 := by decide +kernel
theorem dksJ16_getChars_1 : cJ16_getChars.data.toList.drop 23 = dktJ16_getChars_1 := dk_seg dksJ16_getChars_0 23 rfl rfl
theorem dksJ16_getChars_2 : cJ16_getChars.data.toList.drop 47 = dktJ16_getChars_2 := dk_seg dksJ16_getChars_1 24 rfl rfl
theorem dksJ16_getChars_3 : cJ16_getChars.data.toList.drop 69 = dktJ16_getChars_3 := dk_seg dksJ16_getChars_2 22 rfl rfl
theorem dksJ16_getChars_4 : cJ16_getChars.data.toList.drop 92 = dktJ16_getChars_4 := dk_seg dksJ16_getChars_3 23 rfl rfl
theorem dksJ16_getChars_5 : cJ16_getChars.data.toList.drop 115 = dktJ16_getChars_5 := dk_seg dksJ16_getChars_4 23 rfl rfl
theorem dJ16_getChars_0 : decode cJ16_getChars 0 = .ok (.iload_n 1, 1) := dk_27 (dk_at dksJ16_getChars_0 0 rfl rfl)
theorem dJ16_getChars_1 : decode cJ16_getChars 1 = .ok (.istore 5, 2) := dk_54 5 (dk_at dksJ16_getChars_0 1 rfl rfl)
theorem dJ16_getChars_3 : decode cJ16_getChars 3 = .ok (.iload_n 0, 1) := dk_26 (dk_at dksJ16_getChars_0 3 rfl rfl)
theorem dJ16_getChars_4 : decode cJ16_getChars 4 = .ok (.ifCond .ge 7, 3) := dk_156 0 7 (dk_at dksJ16_getChars_0 4 rfl rfl)
theorem dJ16_getChars_7 : decode cJ16_getChars 7 = .ok (.iconst 1, 1) := dk_4 (dk_at dksJ16_getChars_0 7 rfl rfl)
theorem dJ16_getChars_8 : decode cJ16_getChars 8 = .ok (.goto 4, 3) := dk_167 0 4 (dk_at dksJ16_getChars_0 8 rfl rfl)
theorem dJ16_getChars_11 : decode cJ16_getChars 11 = .ok (.iconst 0, 1) := dk_3 (dk_at dksJ16_getChars_0 11 rfl rfl)
theorem dJ16_getChars_12 : decode cJ16_getChars 12 = .ok (.istore 6, 2) := dk_54 6 (dk_at dksJ16_getChars_0 12 rfl rfl)
theorem dJ16_getChars_14 : decode cJ16_getChars 14 = .ok (.iload 6, 2) := dk_21 6 (dk_at dksJ16_getChars_0 14 rfl rfl)
theorem dJ16_getChars_16 : decode cJ16_getChars 16 = .ok (.ifCond .ne 6, 3) := dk_154 0 6 (dk_at dksJ16_getChars_0 16 rfl rfl)
theorem dJ16_getChars_19 : decode cJ16_getChars 19 = .ok (.iload_n 0, 1) := dk_26 (dk_at dksJ16_getChars_0 19 rfl rfl)
theorem dJ16_getChars_20 : decode cJ16_getChars 20 = .ok (.ineg, 1) := dk_116 (dk_at dksJ16_getChars_0 20 rfl rfl)
theorem dJ16_getChars_21 : decode cJ16_getChars 21 = .ok (.istore_n 0, 1) := dk_59 (dk_at dksJ16_getChars_0 21 rfl rfl)
theorem dJ16_getChars_22 : decode cJ16_getChars 22 = .ok (.iload_n 0, 1) := dk_26 (dk_at dksJ16_getChars_0 22 rfl rfl)
theorem dJ16_getChars_23 : decode cJ16_getChars 23 = .ok (.bipush (-100), 2) := dk_16 156 (dk_at dksJ16_getChars_1 0 rfl rfl)
theorem dJ16_getChars_25 : decode cJ16_getChars 25 = .ok (.if_icmp .gt 47, 3) := dk_163 0 47 (dk_at dksJ16_getChars_1 2 rfl rfl)
theorem dJ16_getChars_28 : decode cJ16_getChars 28 = .ok (.iload_n 0, 1) := dk_26 (dk_at dksJ16_getChars_1 5 rfl rfl)
theorem dJ16_getChars_29 : decode cJ16_getChars 29 = .ok (.bipush 100, 2) := dk_16 100 (dk_at dksJ16_getChars_1 6 rfl rfl)
theorem dJ16_getChars_31 : decode cJ16_getChars 31 = .ok (.idiv, 1) := dk_108 (dk_at dksJ16_getChars_1 8 rfl rfl)
theorem dJ16_getChars_32 : decode cJ16_getChars 32 = .ok (.istore_n 3, 1) := dk_62 (dk_at dksJ16_getChars_1 9 rfl rfl)
theorem dJ16_getChars_33 : decode cJ16_getChars 33 = .ok (.iload_n 3, 1) := dk_29 (dk_at dksJ16_getChars_1 10 rfl rfl)
theorem dJ16_getChars_34 : decode cJ16_getChars 34 = .ok (.bipush 100, 2) := dk_16 100 (dk_at dksJ16_getChars_1 11 rfl rfl)
theorem dJ16_getChars_36 : decode cJ16_getChars 36 = .ok (.imul, 1) := dk_104 (dk_at dksJ16_getChars_1 13 rfl rfl)
theorem dJ16_getChars_37 : decode cJ16_getChars 37 = .ok (.iload_n 0, 1) := dk_26 (dk_at dksJ16_getChars_1 14 rfl rfl)
theorem dJ16_getChars_38 : decode cJ16_getChars 38 = .ok (.isub, 1) := dk_100 (dk_at dksJ16_getChars_1 15 rfl rfl)
theorem dJ16_getChars_39 : decode cJ16_getChars 39 = .ok (.istore 4, 2) := dk_54 4 (dk_at dksJ16_getChars_1 16 rfl rfl)
theorem dJ16_getChars_41 : decode cJ16_getChars 41 = .ok (.iload_n 3, 1) := dk_29 (dk_at dksJ16_getChars_1 18 rfl rfl)
theorem dJ16_getChars_42 : decode cJ16_getChars 42 = .ok (.istore_n 0, 1) := dk_59 (dk_at dksJ16_getChars_1 19 rfl rfl)
theorem dJ16_getChars_43 : decode cJ16_getChars 43 = .ok (.aload_n 2, 1) := dk_44 (dk_at dksJ16_getChars_1 20 rfl rfl)
theorem dJ16_getChars_44 : decode cJ16_getChars 44 = .ok (.iinc 5 (-1), 3) := dk_132 5 255 (dk_at dksJ16_getChars_1 21 rfl rfl)
theorem dJ16_getChars_47 : decode cJ16_getChars 47 = .ok (.iload 5, 2) := dk_21 5 (dk_at dksJ16_getChars_2 0 rfl rfl)
theorem dJ16_getChars_49 : decode cJ16_getChars 49 = .ok (.getstatic 83, 3) := dk_178 0 83 (dk_at dksJ16_getChars_2 2 rfl rfl)
theorem dJ16_getChars_52 : decode cJ16_getChars 52 = .ok (.iload 4, 2) := dk_21 4 (dk_at dksJ16_getChars_2 5 rfl rfl)
theorem dJ16_getChars_54 : decode cJ16_getChars 54 = .ok (.baload, 1) := dk_51 (dk_at dksJ16_getChars_2 7 rfl rfl)
theorem dJ16_getChars_55 : decode cJ16_getChars 55 = .ok (.bastore, 1) := dk_84 (dk_at dksJ16_getChars_2 8 rfl rfl)
theorem dJ16_getChars_56 : decode cJ16_getChars 56 = .ok (.aload_n 2, 1) := dk_44 (dk_at dksJ16_getChars_2 9 rfl rfl)
theorem dJ16_getChars_57 : decode cJ16_getChars 57 = .ok (.iinc 5 (-1), 3) := dk_132 5 255 (dk_at dksJ16_getChars_2 10 rfl rfl)
theorem dJ16_getChars_60 : decode cJ16_getChars 60 = .ok (.iload 5, 2) := dk_21 5 (dk_at dksJ16_getChars_2 13 rfl rfl)
theorem dJ16_getChars_62 : decode cJ16_getChars 62 = .ok (.getstatic 87, 3) := dk_178 0 87 (dk_at dksJ16_getChars_2 15 rfl rfl)
theorem dJ16_getChars_65 : decode cJ16_getChars 65 = .ok (.iload 4, 2) := dk_21 4 (dk_at dksJ16_getChars_2 18 rfl rfl)
theorem dJ16_getChars_67 : decode cJ16_getChars 67 = .ok (.baload, 1) := dk_51 (dk_at dksJ16_getChars_2 20 rfl rfl)
theorem dJ16_getChars_68 : decode cJ16_getChars 68 = .ok (.bastore, 1) := dk_84 (dk_at dksJ16_getChars_2 21 rfl rfl)
theorem dJ16_getChars_69 : decode cJ16_getChars 69 = .ok (.goto (-47), 3) := dk_167 255 209 (dk_at dksJ16_getChars_3 0 rfl rfl)
theorem dJ16_getChars_72 : decode cJ16_getChars 72 = .ok (.aload_n 2, 1) := dk_44 (dk_at dksJ16_getChars_3 3 rfl rfl)
theorem dJ16_getChars_73 : decode cJ16_getChars 73 = .ok (.iinc 5 (-1), 3) := dk_132 5 255 (dk_at dksJ16_getChars_3 4 rfl rfl)
theorem dJ16_getChars_76 : decode cJ16_getChars 76 = .ok (.iload 5, 2) := dk_21 5 (dk_at dksJ16_getChars_3 7 rfl rfl)
theorem dJ16_getChars_78 : decode cJ16_getChars 78 = .ok (.getstatic 83, 3) := dk_178 0 83 (dk_at dksJ16_getChars_3 9 rfl rfl)
theorem dJ16_getChars_81 : decode cJ16_getChars 81 = .ok (.iload_n 0, 1) := dk_26 (dk_at dksJ16_getChars_3 12 rfl rfl)
theorem dJ16_getChars_82 : decode cJ16_getChars 82 = .ok (.ineg, 1) := dk_116 (dk_at dksJ16_getChars_3 13 rfl rfl)
theorem dJ16_getChars_83 : decode cJ16_getChars 83 = .ok (.baload, 1) := dk_51 (dk_at dksJ16_getChars_3 14 rfl rfl)
theorem dJ16_getChars_84 : decode cJ16_getChars 84 = .ok (.bastore, 1) := dk_84 (dk_at dksJ16_getChars_3 15 rfl rfl)
theorem dJ16_getChars_85 : decode cJ16_getChars 85 = .ok (.iload_n 0, 1) := dk_26 (dk_at dksJ16_getChars_3 16 rfl rfl)
theorem dJ16_getChars_86 : decode cJ16_getChars 86 = .ok (.bipush (-9), 2) := dk_16 247 (dk_at dksJ16_getChars_3 17 rfl rfl)
theorem dJ16_getChars_88 : decode cJ16_getChars 88 = .ok (.if_icmp .ge 16, 3) := dk_162 0 16 (dk_at dksJ16_getChars_3 19 rfl rfl)
theorem dJ16_getChars_91 : decode cJ16_getChars 91 = .ok (.aload_n 2, 1) := dk_44 (dk_at dksJ16_getChars_3 22 rfl rfl)
theorem dJ16_getChars_92 : decode cJ16_getChars 92 = .ok (.iinc 5 (-1), 3) := dk_132 5 255 (dk_at dksJ16_getChars_4 0 rfl rfl)
theorem dJ16_getChars_95 : decode cJ16_getChars 95 = .ok (.iload 5, 2) := dk_21 5 (dk_at dksJ16_getChars_4 3 rfl rfl)
theorem dJ16_getChars_97 : decode cJ16_getChars 97 = .ok (.getstatic 87, 3) := dk_178 0 87 (dk_at dksJ16_getChars_4 5 rfl rfl)
theorem dJ16_getChars_100 : decode cJ16_getChars 100 = .ok (.iload_n 0, 1) := dk_26 (dk_at dksJ16_getChars_4 8 rfl rfl)
theorem dJ16_getChars_101 : decode cJ16_getChars 101 = .ok (.ineg, 1) := dk_116 (dk_at dksJ16_getChars_4 9 rfl rfl)
theorem dJ16_getChars_102 : decode cJ16_getChars 102 = .ok (.baload, 1) := dk_51 (dk_at dksJ16_getChars_4 10 rfl rfl)
theorem dJ16_getChars_103 : decode cJ16_getChars 103 = .ok (.bastore, 1) := dk_84 (dk_at dksJ16_getChars_4 11 rfl rfl)
theorem dJ16_getChars_104 : decode cJ16_getChars 104 = .ok (.iload 6, 2) := dk_21 6 (dk_at dksJ16_getChars_4 12 rfl rfl)
theorem dJ16_getChars_106 : decode cJ16_getChars 106 = .ok (.ifCond .eq 12, 3) := dk_153 0 12 (dk_at dksJ16_getChars_4 14 rfl rfl)
theorem dJ16_getChars_109 : decode cJ16_getChars 109 = .ok (.aload_n 2, 1) := dk_44 (dk_at dksJ16_getChars_4 17 rfl rfl)
theorem dJ16_getChars_110 : decode cJ16_getChars 110 = .ok (.iinc 5 (-1), 3) := dk_132 5 255 (dk_at dksJ16_getChars_4 18 rfl rfl)
theorem dJ16_getChars_113 : decode cJ16_getChars 113 = .ok (.iload 5, 2) := dk_21 5 (dk_at dksJ16_getChars_4 21 rfl rfl)
theorem dJ16_getChars_115 : decode cJ16_getChars 115 = .ok (.bipush 45, 2) := dk_16 45 (dk_at dksJ16_getChars_5 0 rfl rfl)
theorem dJ16_getChars_117 : decode cJ16_getChars 117 = .ok (.bastore, 1) := dk_84 (dk_at dksJ16_getChars_5 2 rfl rfl)
theorem dJ16_getChars_118 : decode cJ16_getChars 118 = .ok (.iload 5, 2) := dk_21 5 (dk_at dksJ16_getChars_5 3 rfl rfl)
theorem dJ16_getChars_120 : decode cJ16_getChars 120 = .ok (.ireturn, 1) := dk_172 (dk_at dksJ16_getChars_5 5 rfl rfl)
abbrev cJ16_bitCount : ByteArray := prog_30_method_49_code
def yJ16_bitCount : MethodName := ⟨RJ16, "bitCount", "(I)I"⟩
def dkwJ16_bitCount_2 : List UInt8 := [26, 16, 63, 126, 172]
abbrev dktJ16_bitCount_2 : List UInt8 := dkwJ16_bitCount_2 ++ []
def dkwJ16_bitCount_1 : List UInt8 := [26, 26, 7, 124, 96, 19, 1, 11, 126, 59, 26, 26, 16, 8, 124, 96, 59, 26, 26, 16, 16, 124, 96, 59]
abbrev dktJ16_bitCount_1 : List UInt8 := dkwJ16_bitCount_1 ++ dktJ16_bitCount_2
def dkwJ16_bitCount_0 : List UInt8 := [26, 26, 4, 124, 19, 1, 9, 126, 100, 59, 26, 19, 1, 10, 126, 26, 5, 124, 19, 1, 10, 126, 96, 59]
abbrev dktJ16_bitCount_0 : List UInt8 := dkwJ16_bitCount_0 ++ dktJ16_bitCount_1
theorem dksJ16_bitCount_0 : cJ16_bitCount.data.toList.drop 0 = dktJ16_bitCount_0 := by decide +kernel
theorem dksJ16_bitCount_1 : cJ16_bitCount.data.toList.drop 24 = dktJ16_bitCount_1 := dk_seg dksJ16_bitCount_0 24 rfl rfl
theorem dksJ16_bitCount_2 : cJ16_bitCount.data.toList.drop 48 = dktJ16_bitCount_2 := dk_seg dksJ16_bitCount_1 24 rfl rfl
theorem dJ16_bitCount_0 : decode cJ16_bitCount 0 = .ok (.iload_n 0, 1) := dk_26 (dk_at dksJ16_bitCount_0 0 rfl rfl)
theorem dJ16_bitCount_1 : decode cJ16_bitCount 1 = .ok (.iload_n 0, 1) := dk_26 (dk_at dksJ16_bitCount_0 1 rfl rfl)
theorem dJ16_bitCount_2 : decode cJ16_bitCount 2 = .ok (.iconst 1, 1) := dk_4 (dk_at dksJ16_bitCount_0 2 rfl rfl)
theorem dJ16_bitCount_3 : decode cJ16_bitCount 3 = .ok (.iushr, 1) := dk_124 (dk_at dksJ16_bitCount_0 3 rfl rfl)
theorem dJ16_bitCount_4 : decode cJ16_bitCount 4 = .ok (.ldc_w 265, 3) := dk_19 1 9 (dk_at dksJ16_bitCount_0 4 rfl rfl)
theorem dJ16_bitCount_7 : decode cJ16_bitCount 7 = .ok (.iand, 1) := dk_126 (dk_at dksJ16_bitCount_0 7 rfl rfl)
theorem dJ16_bitCount_8 : decode cJ16_bitCount 8 = .ok (.isub, 1) := dk_100 (dk_at dksJ16_bitCount_0 8 rfl rfl)
theorem dJ16_bitCount_9 : decode cJ16_bitCount 9 = .ok (.istore_n 0, 1) := dk_59 (dk_at dksJ16_bitCount_0 9 rfl rfl)
theorem dJ16_bitCount_10 : decode cJ16_bitCount 10 = .ok (.iload_n 0, 1) := dk_26 (dk_at dksJ16_bitCount_0 10 rfl rfl)
theorem dJ16_bitCount_11 : decode cJ16_bitCount 11 = .ok (.ldc_w 266, 3) := dk_19 1 10 (dk_at dksJ16_bitCount_0 11 rfl rfl)
theorem dJ16_bitCount_14 : decode cJ16_bitCount 14 = .ok (.iand, 1) := dk_126 (dk_at dksJ16_bitCount_0 14 rfl rfl)
theorem dJ16_bitCount_15 : decode cJ16_bitCount 15 = .ok (.iload_n 0, 1) := dk_26 (dk_at dksJ16_bitCount_0 15 rfl rfl)
theorem dJ16_bitCount_16 : decode cJ16_bitCount 16 = .ok (.iconst 2, 1) := dk_5 (dk_at dksJ16_bitCount_0 16 rfl rfl)
theorem dJ16_bitCount_17 : decode cJ16_bitCount 17 = .ok (.iushr, 1) := dk_124 (dk_at dksJ16_bitCount_0 17 rfl rfl)
theorem dJ16_bitCount_18 : decode cJ16_bitCount 18 = .ok (.ldc_w 266, 3) := dk_19 1 10 (dk_at dksJ16_bitCount_0 18 rfl rfl)
theorem dJ16_bitCount_21 : decode cJ16_bitCount 21 = .ok (.iand, 1) := dk_126 (dk_at dksJ16_bitCount_0 21 rfl rfl)
theorem dJ16_bitCount_22 : decode cJ16_bitCount 22 = .ok (.iadd, 1) := dk_96 (dk_at dksJ16_bitCount_0 22 rfl rfl)
theorem dJ16_bitCount_23 : decode cJ16_bitCount 23 = .ok (.istore_n 0, 1) := dk_59 (dk_at dksJ16_bitCount_0 23 rfl rfl)
theorem dJ16_bitCount_24 : decode cJ16_bitCount 24 = .ok (.iload_n 0, 1) := dk_26 (dk_at dksJ16_bitCount_1 0 rfl rfl)
theorem dJ16_bitCount_25 : decode cJ16_bitCount 25 = .ok (.iload_n 0, 1) := dk_26 (dk_at dksJ16_bitCount_1 1 rfl rfl)
theorem dJ16_bitCount_26 : decode cJ16_bitCount 26 = .ok (.iconst 4, 1) := dk_7 (dk_at dksJ16_bitCount_1 2 rfl rfl)
theorem dJ16_bitCount_27 : decode cJ16_bitCount 27 = .ok (.iushr, 1) := dk_124 (dk_at dksJ16_bitCount_1 3 rfl rfl)
theorem dJ16_bitCount_28 : decode cJ16_bitCount 28 = .ok (.iadd, 1) := dk_96 (dk_at dksJ16_bitCount_1 4 rfl rfl)
theorem dJ16_bitCount_29 : decode cJ16_bitCount 29 = .ok (.ldc_w 267, 3) := dk_19 1 11 (dk_at dksJ16_bitCount_1 5 rfl rfl)
theorem dJ16_bitCount_32 : decode cJ16_bitCount 32 = .ok (.iand, 1) := dk_126 (dk_at dksJ16_bitCount_1 8 rfl rfl)
theorem dJ16_bitCount_33 : decode cJ16_bitCount 33 = .ok (.istore_n 0, 1) := dk_59 (dk_at dksJ16_bitCount_1 9 rfl rfl)
theorem dJ16_bitCount_34 : decode cJ16_bitCount 34 = .ok (.iload_n 0, 1) := dk_26 (dk_at dksJ16_bitCount_1 10 rfl rfl)
theorem dJ16_bitCount_35 : decode cJ16_bitCount 35 = .ok (.iload_n 0, 1) := dk_26 (dk_at dksJ16_bitCount_1 11 rfl rfl)
theorem dJ16_bitCount_36 : decode cJ16_bitCount 36 = .ok (.bipush 8, 2) := dk_16 8 (dk_at dksJ16_bitCount_1 12 rfl rfl)
theorem dJ16_bitCount_38 : decode cJ16_bitCount 38 = .ok (.iushr, 1) := dk_124 (dk_at dksJ16_bitCount_1 14 rfl rfl)
theorem dJ16_bitCount_39 : decode cJ16_bitCount 39 = .ok (.iadd, 1) := dk_96 (dk_at dksJ16_bitCount_1 15 rfl rfl)
theorem dJ16_bitCount_40 : decode cJ16_bitCount 40 = .ok (.istore_n 0, 1) := dk_59 (dk_at dksJ16_bitCount_1 16 rfl rfl)
theorem dJ16_bitCount_41 : decode cJ16_bitCount 41 = .ok (.iload_n 0, 1) := dk_26 (dk_at dksJ16_bitCount_1 17 rfl rfl)
theorem dJ16_bitCount_42 : decode cJ16_bitCount 42 = .ok (.iload_n 0, 1) := dk_26 (dk_at dksJ16_bitCount_1 18 rfl rfl)
theorem dJ16_bitCount_43 : decode cJ16_bitCount 43 = .ok (.bipush 16, 2) := dk_16 16 (dk_at dksJ16_bitCount_1 19 rfl rfl)
theorem dJ16_bitCount_45 : decode cJ16_bitCount 45 = .ok (.iushr, 1) := dk_124 (dk_at dksJ16_bitCount_1 21 rfl rfl)
theorem dJ16_bitCount_46 : decode cJ16_bitCount 46 = .ok (.iadd, 1) := dk_96 (dk_at dksJ16_bitCount_1 22 rfl rfl)
theorem dJ16_bitCount_47 : decode cJ16_bitCount 47 = .ok (.istore_n 0, 1) := dk_59 (dk_at dksJ16_bitCount_1 23 rfl rfl)
theorem dJ16_bitCount_48 : decode cJ16_bitCount 48 = .ok (.iload_n 0, 1) := dk_26 (dk_at dksJ16_bitCount_2 0 rfl rfl)
theorem dJ16_bitCount_49 : decode cJ16_bitCount 49 = .ok (.bipush 63, 2) := dk_16 63 (dk_at dksJ16_bitCount_2 1 rfl rfl)
theorem dJ16_bitCount_51 : decode cJ16_bitCount 51 = .ok (.iand, 1) := dk_126 (dk_at dksJ16_bitCount_2 3 rfl rfl)
theorem dJ16_bitCount_52 : decode cJ16_bitCount 52 = .ok (.ireturn, 1) := dk_172 (dk_at dksJ16_bitCount_2 4 rfl rfl)
theorem q126 : (Jvm.Cond.initialized "java/lang/Integer") ∈ lw_all := lw_g (lw_at lw_m1 21 rfl) rfl
theorem q380 : (Jvm.Cond.static ({ cls := "java/lang/Integer", name := "stringSize", desc := "(I)I" } : Jvm.MethodName)) ∈ lw_all := lw_g (lw_at lw_m2 35 rfl) rfl
theorem q381 : (Jvm.Cond.code ({ cls := "java/lang/Integer", name := "stringSize", desc := "(I)I" } : Jvm.MethodName) prog_30_method_13_code (4 : Nat) (Option.some Jvm.ClassFile.FieldType.int)) ∈ lw_all := lw_g (lw_at lw_m2 36 rfl) rfl
theorem q383 : (Jvm.Cond.static ({ cls := "java/lang/Integer", name := "getChars", desc := "(II[B)I" } : Jvm.MethodName)) ∈ lw_all := lw_g (lw_at lw_m2 38 rfl) rfl
theorem q384 : (Jvm.Cond.code ({ cls := "java/lang/Integer", name := "getChars", desc := "(II[B)I" } : Jvm.MethodName) prog_30_method_12_code (7 : Nat) (Option.some Jvm.ClassFile.FieldType.int)) ∈ lw_all := lw_g (lw_at lw_m2 39 rfl) rfl
theorem q385 : (Jvm.Cond.fieldLink "java/lang/Integer" (83 : Nat) "java/lang/Integer" "DigitOnes" "[B") ∈ lw_all := lw_g (lw_at lw_m2 40 rfl) rfl
theorem q386 : (Jvm.Cond.laysStatic "java/lang/Integer" "DigitOnes" "[B") ∈ lw_tbl := lw_at lw_m2 41 rfl
theorem q387 : (Jvm.Cond.fieldLink "java/lang/Integer" (87 : Nat) "java/lang/Integer" "DigitTens" "[B") ∈ lw_all := lw_g (lw_at lw_m2 42 rfl) rfl
theorem q388 : (Jvm.Cond.laysStatic "java/lang/Integer" "DigitTens" "[B") ∈ lw_tbl := lw_at lw_m2 43 rfl
theorem q1647 : (Jvm.Cond.static ({ cls := "java/lang/Integer", name := "bitCount", desc := "(I)I" } : Jvm.MethodName)) ∈ lw_all := lw_g (lw_at lw_m7 102 rfl) rfl
theorem q1648 : (Jvm.Cond.code ({ cls := "java/lang/Integer", name := "bitCount", desc := "(I)I" } : Jvm.MethodName) prog_30_method_49_code (1 : Nat) (Option.some Jvm.ClassFile.FieldType.int)) ∈ lw_all := lw_g (lw_at lw_m7 103 rfl) rfl
theorem q1649 : (Jvm.Cond.constant "java/lang/Integer" (265 : Nat) (1431655765 : Int32)) ∈ lw_all := lw_g (lw_at lw_m7 104 rfl) rfl
theorem q1650 : (Jvm.Cond.constant "java/lang/Integer" (266 : Nat) (858993459 : Int32)) ∈ lw_all := lw_g (lw_at lw_m7 105 rfl) rfl
theorem q1651 : (Jvm.Cond.constant "java/lang/Integer" (267 : Nat) (252645135 : Int32)) ∈ lw_all := lw_g (lw_at lw_m7 106 rfl) rfl

/-! java/lang/Enum -/
set_option maxRecDepth 100000
def RJ17 : String := "java/lang/Enum"
abbrev cJ17_ordinal : ByteArray := prog_27_method_2_code
def yJ17_ordinal : MethodName := ⟨RJ17, "ordinal", "()I"⟩
theorem dJ17_ordinal_0 : decode cJ17_ordinal 0 = .ok (.aload_n 0, 1) := by decide +kernel
theorem dJ17_ordinal_1 : decode cJ17_ordinal 1 = .ok (.getfield 7, 3) := by decide +kernel
theorem dJ17_ordinal_4 : decode cJ17_ordinal 4 = .ok (.ireturn, 1) := by decide +kernel
theorem q128 : (Jvm.Cond.initialized "java/lang/Enum") ∈ lw_all := lw_g (lw_at lw_m1 23 rfl) rfl
theorem q1354 : (Jvm.Cond.declares ({ cls := "java/lang/Enum", name := "ordinal", desc := "()I" } : Jvm.MethodName)) ∈ lw_tbl := lw_at lw_m6 49 rfl
theorem q1356 : (Jvm.Cond.instanceMethod ({ cls := "java/lang/Enum", name := "ordinal", desc := "()I" } : Jvm.MethodName)) ∈ lw_all := lw_g (lw_at lw_m6 51 rfl) rfl
theorem q1357 : (Jvm.Cond.code ({ cls := "java/lang/Enum", name := "ordinal", desc := "()I" } : Jvm.MethodName) prog_27_method_2_code (1 : Nat) (Option.some Jvm.ClassFile.FieldType.int)) ∈ lw_all := lw_g (lw_at lw_m6 52 rfl) rfl
theorem q2381 : (Jvm.Cond.fieldLink "java/lang/Enum" (7 : Nat) "java/lang/Enum" "ordinal" "I") ∈ lw_all := lw_g (lw_at lw_m10 116 rfl) rfl

/-! java/util/Objects -/
set_option maxRecDepth 100000
def RJ18 : String := "java/util/Objects"
abbrev cJ18_checkIndex : ByteArray := prog_50_method_17_code
def yJ18_checkIndex : MethodName := ⟨RJ18, "checkIndex", "(II)I"⟩
def dkwJ18_checkIndex_0 : List UInt8 := [26, 27, 1, 184, 0, 105, 172]
abbrev dktJ18_checkIndex_0 : List UInt8 := dkwJ18_checkIndex_0 ++ []
theorem dksJ18_checkIndex_0 : cJ18_checkIndex.data.toList.drop 0 = dktJ18_checkIndex_0 := by decide +kernel
theorem dJ18_checkIndex_0 : decode cJ18_checkIndex 0 = .ok (.iload_n 0, 1) := dk_26 (dk_at dksJ18_checkIndex_0 0 rfl rfl)
theorem dJ18_checkIndex_1 : decode cJ18_checkIndex 1 = .ok (.iload_n 1, 1) := dk_27 (dk_at dksJ18_checkIndex_0 1 rfl rfl)
theorem dJ18_checkIndex_2 : decode cJ18_checkIndex 2 = .ok (.aconst_null, 1) := dk_1 (dk_at dksJ18_checkIndex_0 2 rfl rfl)
theorem dJ18_checkIndex_3 : decode cJ18_checkIndex 3 = .ok (.invokestatic 105, 3) := dk_184 0 105 (dk_at dksJ18_checkIndex_0 3 rfl rfl)
theorem dJ18_checkIndex_6 : decode cJ18_checkIndex 6 = .ok (.ireturn, 1) := dk_172 (dk_at dksJ18_checkIndex_0 6 rfl rfl)
theorem q133 : (Jvm.Cond.initialized "java/util/Objects") ∈ lw_all := lw_g (lw_at lw_m1 28 rfl) rfl
theorem q800 : (Jvm.Cond.static ({ cls := "java/util/Objects", name := "checkIndex", desc := "(II)I" } : Jvm.MethodName)) ∈ lw_all := lw_g (lw_at lw_m3 215 rfl) rfl
theorem q801 : (Jvm.Cond.code ({ cls := "java/util/Objects", name := "checkIndex", desc := "(II)I" } : Jvm.MethodName) prog_50_method_17_code (2 : Nat) (Option.some Jvm.ClassFile.FieldType.int)) ∈ lw_all := lw_g (lw_at lw_m3 216 rfl) rfl
theorem q802 : (Jvm.Cond.methodLink "java/util/Objects" (105 : Nat) ({ cls := "jdk/internal/util/Preconditions", name := "checkIndex", desc := "(IILjava/util/function/BiFunction;)I" } : Jvm.MethodName)) ∈ lw_all := lw_g (lw_at lw_m3 217 rfl) rfl

/-! java/util/NoSuchElementException -/
set_option maxRecDepth 100000
def RJ19 : String := "java/util/NoSuchElementException"
def TJ19 : u_T := fun k => match k with
  | 0 => ("java/lang/Throwable", "cause", "Ljava/lang/Throwable;", false)
  | 1 => ("java/lang/Throwable", "stackTrace", "[Ljava/lang/StackTraceElement;", false)
  | 2 => ("java/lang/Throwable", "suppressedExceptions", "Ljava/util/List;", false)
  | 3 => ("java/lang/Throwable", "detailMessage", "Ljava/lang/String;", false)
  | 4 => ("java/lang/Throwable", "backtrace", "Ljava/lang/Object;", false)
  | _ => ("java/lang/Throwable", "depth", "I", false)
def tyJ19 : Nat → FieldType := fun k => match k with
  | 0 => .object "java/lang/Throwable"
  | 1 => .array (.object "java/lang/StackTraceElement")
  | 2 => .object "java/util/List"
  | 3 => .object "java/lang/String"
  | 4 => .object "java/lang/Object"
  | _ => .int
abbrev wsJ190 : List Cond := u_ws RJ19 TJ19 6
theorem nmJ19 : ∀ a, a < 6 → ∀ b, b < 6 → a ≠ b → (TJ19 a).2.1 ≠ (TJ19 b).2.1 := by decide +kernel
theorem tyJ19_ok : ∀ k, k < 6 → parseFieldDescriptor (TJ19 k).2.2.1 = some (tyJ19 k) := by decide +kernel
abbrev cJ19_init : ByteArray := prog_49_method_1_code
def yJ19_init : MethodName := ⟨RJ19, "<init>", "()V"⟩
theorem dJ19_init_0 : decode cJ19_init 0 = .ok (.aload_n 0, 1) := by decide +kernel
theorem dJ19_init_1 : decode cJ19_init 1 = .ok (.invokespecial 1, 3) := by decide +kernel
theorem dJ19_init_4 : decode cJ19_init 4 = .ok (.return_, 1) := by decide +kernel
theorem q146 : (Jvm.Cond.initialized "java/util/NoSuchElementException") ∈ lw_all := lw_g (lw_at lw_m1 41 rfl) rfl
theorem q211 : (Jvm.Cond.selects "java/util/NoSuchElementException" ({ cls := "java/lang/Throwable", name := "fillInStackTrace", desc := "()Ljava/lang/Throwable;" } : Jvm.MethodName) ({ cls := "java/lang/Throwable", name := "fillInStackTrace", desc := "()Ljava/lang/Throwable;" } : Jvm.MethodName)) ∈ lw_all := lw_g (lw_at lw_m1 106 rfl) rfl
theorem q689 : (Jvm.Cond.selects "java/util/NoSuchElementException" ({ cls := "java/lang/Object", name := "getClass", desc := "()Ljava/lang/Class;" } : Jvm.MethodName) ({ cls := "java/lang/Object", name := "getClass", desc := "()Ljava/lang/Class;" } : Jvm.MethodName)) ∈ lw_all := lw_g (lw_at lw_m3 104 rfl) rfl
theorem q1266 : (Jvm.Cond.instantiable "java/util/NoSuchElementException" (6 : Nat)) ∈ lw_all := lw_g (lw_at lw_m5 201 rfl) rfl
theorem q1267 : (Jvm.Cond.castable "java/util/NoSuchElementException" "java/util/NoSuchElementException") ∈ lw_tbl := lw_at lw_m5 202 rfl
theorem q1268 : (Jvm.Cond.selects "java/util/NoSuchElementException" ({ cls := "java/lang/Throwable", name := "fillInStackTrace", desc := "(I)Ljava/lang/Throwable;" } : Jvm.MethodName) ({ cls := "java/lang/Throwable", name := "fillInStackTrace", desc := "(I)Ljava/lang/Throwable;" } : Jvm.MethodName)) ∈ lw_all := lw_g (lw_at lw_m5 203 rfl) rfl
theorem q1269 : (Jvm.Cond.lays "java/util/NoSuchElementException" "java/lang/Throwable" "cause" "Ljava/lang/Throwable;") ∈ lw_all := lw_g (lw_at lw_m5 204 rfl) rfl
theorem q1270 : (Jvm.Cond.lays "java/util/NoSuchElementException" "java/lang/Throwable" "stackTrace" "[Ljava/lang/StackTraceElement;") ∈ lw_all := lw_g (lw_at lw_m5 205 rfl) rfl
theorem q1271 : (Jvm.Cond.lays "java/util/NoSuchElementException" "java/lang/Throwable" "suppressedExceptions" "Ljava/util/List;") ∈ lw_all := lw_g (lw_at lw_m5 206 rfl) rfl
theorem q1272 : (Jvm.Cond.lays "java/util/NoSuchElementException" "java/lang/Throwable" "detailMessage" "Ljava/lang/String;") ∈ lw_all := lw_g (lw_at lw_m5 207 rfl) rfl
theorem q1273 : (Jvm.Cond.lays "java/util/NoSuchElementException" "java/lang/Throwable" "backtrace" "Ljava/lang/Object;") ∈ lw_all := lw_g (lw_at lw_m5 208 rfl) rfl
theorem q1275 : (Jvm.Cond.instanceMethod ({ cls := "java/util/NoSuchElementException", name := "<init>", desc := "()V" } : Jvm.MethodName)) ∈ lw_all := lw_g (lw_at lw_m5 210 rfl) rfl
theorem q1276 : (Jvm.Cond.code ({ cls := "java/util/NoSuchElementException", name := "<init>", desc := "()V" } : Jvm.MethodName) prog_49_method_1_code (1 : Nat) (Option.none : Option Jvm.ClassFile.FieldType)) ∈ lw_all := lw_g (lw_at lw_m5 211 rfl) rfl
theorem q1277 : (Jvm.Cond.methodLink "java/util/NoSuchElementException" (1 : Nat) ({ cls := "java/lang/RuntimeException", name := "<init>", desc := "()V" } : Jvm.MethodName)) ∈ lw_all := lw_g (lw_at lw_m5 212 rfl) rfl
theorem q1278 : (Jvm.Cond.lays "java/util/NoSuchElementException" "java/lang/Throwable" "depth" "I") ∈ lw_all := lw_g (lw_at lw_m5 213 rfl) rfl
theorem q1279 : (Jvm.Cond.superclass "java/util/NoSuchElementException" "java/lang/RuntimeException") ∈ lw_all := lw_g (lw_at lw_m5 214 rfl) rfl
theorem q2369 : (Jvm.Cond.castable "java/util/NoSuchElementException" "java/lang/Object") ∈ lw_tbl := lw_at lw_m10 104 rfl
theorem in_J19 : ∀ w ∈ wsJ190, w ∈ lw_all := lw_in wsJ190 [1269, 1270, 1271, 1272, 1273, 1278] (by decide +kernel) (by decide +kernel)

/-! java/util/ArrayList -/
set_option maxRecDepth 100000
def RJ2 : String := "java/util/ArrayList"
def TJ2 : u_T := fun k => match k with
  | 0 => ("java/util/AbstractList", "modCount", "I", false)
  | 1 => ("java/util/ArrayList", "elementData", "[Ljava/lang/Object;", false)
  | _ => ("java/util/ArrayList", "size", "I", false)
def tyJ2 : Nat → FieldType := fun k => match k with
  | 0 => .int
  | 1 => .array (.object "java/lang/Object")
  | _ => .int
abbrev wsJ20 : List Cond := u_ws RJ2 TJ2 3
theorem nmJ2 : ∀ a, a < 3 → ∀ b, b < 3 → a ≠ b → (TJ2 a).2.1 ≠ (TJ2 b).2.1 := by decide +kernel
theorem tyJ2_ok : ∀ k, k < 3 → parseFieldDescriptor (TJ2 k).2.2.1 = some (tyJ2 k) := by decide +kernel
abbrev cJ2_init : ByteArray := prog_45_method_1_code
def yJ2_init : MethodName := ⟨RJ2, "<init>", "(I)V"⟩
def dkwJ2_init_2 : List UInt8 := [182, 0, 25, 27, 182, 0, 29, 182, 0, 32, 183, 0, 36, 191, 177]
abbrev dktJ2_init_2 : List UInt8 := dkwJ2_init_2 ++ []
def dkwJ2_init_1 : List UInt8 := [178, 0, 15, 181, 0, 9, 167, 0, 30, 187, 0, 18, 89, 187, 0, 20, 89, 183, 0, 22, 18, 23]
abbrev dktJ2_init_1 : List UInt8 := dkwJ2_init_1 ++ dktJ2_init_2
def dkwJ2_init_0 : List UInt8 := [42, 183, 0, 1, 27, 158, 0, 14, 42, 27, 189, 0, 7, 181, 0, 9, 167, 0, 44, 27, 154, 0, 13, 42]
abbrev dktJ2_init_0 : List UInt8 := dkwJ2_init_0 ++ dktJ2_init_1
theorem dksJ2_init_0 : cJ2_init.data.toList.drop 0 = dktJ2_init_0 := by decide +kernel
theorem dksJ2_init_1 : cJ2_init.data.toList.drop 24 = dktJ2_init_1 := dk_seg dksJ2_init_0 24 rfl rfl
theorem dksJ2_init_2 : cJ2_init.data.toList.drop 46 = dktJ2_init_2 := dk_seg dksJ2_init_1 22 rfl rfl
theorem dJ2_init_0 : decode cJ2_init 0 = .ok (.aload_n 0, 1) := dk_42 (dk_at dksJ2_init_0 0 rfl rfl)
theorem dJ2_init_1 : decode cJ2_init 1 = .ok (.invokespecial 1, 3) := dk_183 0 1 (dk_at dksJ2_init_0 1 rfl rfl)
theorem dJ2_init_4 : decode cJ2_init 4 = .ok (.iload_n 1, 1) := dk_27 (dk_at dksJ2_init_0 4 rfl rfl)
theorem dJ2_init_5 : decode cJ2_init 5 = .ok (.ifCond .le 14, 3) := dk_158 0 14 (dk_at dksJ2_init_0 5 rfl rfl)
theorem dJ2_init_8 : decode cJ2_init 8 = .ok (.aload_n 0, 1) := dk_42 (dk_at dksJ2_init_0 8 rfl rfl)
theorem dJ2_init_9 : decode cJ2_init 9 = .ok (.iload_n 1, 1) := dk_27 (dk_at dksJ2_init_0 9 rfl rfl)
theorem dJ2_init_10 : decode cJ2_init 10 = .ok (.anewarray 7, 3) := dk_189 0 7 (dk_at dksJ2_init_0 10 rfl rfl)
theorem dJ2_init_13 : decode cJ2_init 13 = .ok (.putfield 9, 3) := dk_181 0 9 (dk_at dksJ2_init_0 13 rfl rfl)
theorem dJ2_init_16 : decode cJ2_init 16 = .ok (.goto 44, 3) := dk_167 0 44 (dk_at dksJ2_init_0 16 rfl rfl)
theorem dJ2_init_19 : decode cJ2_init 19 = .ok (.iload_n 1, 1) := dk_27 (dk_at dksJ2_init_0 19 rfl rfl)
theorem dJ2_init_20 : decode cJ2_init 20 = .ok (.ifCond .ne 13, 3) := dk_154 0 13 (dk_at dksJ2_init_0 20 rfl rfl)
theorem dJ2_init_23 : decode cJ2_init 23 = .ok (.aload_n 0, 1) := dk_42 (dk_at dksJ2_init_0 23 rfl rfl)
theorem dJ2_init_24 : decode cJ2_init 24 = .ok (.getstatic 15, 3) := dk_178 0 15 (dk_at dksJ2_init_1 0 rfl rfl)
theorem dJ2_init_27 : decode cJ2_init 27 = .ok (.putfield 9, 3) := dk_181 0 9 (dk_at dksJ2_init_1 3 rfl rfl)
theorem dJ2_init_30 : decode cJ2_init 30 = .ok (.goto 30, 3) := dk_167 0 30 (dk_at dksJ2_init_1 6 rfl rfl)
theorem dJ2_init_33 : decode cJ2_init 33 = .ok (.new 18, 3) := dk_187 0 18 (dk_at dksJ2_init_1 9 rfl rfl)
theorem dJ2_init_36 : decode cJ2_init 36 = .ok (.dup, 1) := dk_89 (dk_at dksJ2_init_1 12 rfl rfl)
theorem dJ2_init_37 : decode cJ2_init 37 = .ok (.new 20, 3) := dk_187 0 20 (dk_at dksJ2_init_1 13 rfl rfl)
theorem dJ2_init_40 : decode cJ2_init 40 = .ok (.dup, 1) := dk_89 (dk_at dksJ2_init_1 16 rfl rfl)
theorem dJ2_init_41 : decode cJ2_init 41 = .ok (.invokespecial 22, 3) := dk_183 0 22 (dk_at dksJ2_init_1 17 rfl rfl)
theorem dJ2_init_44 : decode cJ2_init 44 = .ok (.ldc 23, 2) := dk_18 23 (dk_at dksJ2_init_1 20 rfl rfl)
theorem dJ2_init_46 : decode cJ2_init 46 = .ok (.invokevirtual 25, 3) := dk_182 0 25 (dk_at dksJ2_init_2 0 rfl rfl)
theorem dJ2_init_49 : decode cJ2_init 49 = .ok (.iload_n 1, 1) := dk_27 (dk_at dksJ2_init_2 3 rfl rfl)
theorem dJ2_init_50 : decode cJ2_init 50 = .ok (.invokevirtual 29, 3) := dk_182 0 29 (dk_at dksJ2_init_2 4 rfl rfl)
theorem dJ2_init_53 : decode cJ2_init 53 = .ok (.invokevirtual 32, 3) := dk_182 0 32 (dk_at dksJ2_init_2 7 rfl rfl)
theorem dJ2_init_56 : decode cJ2_init 56 = .ok (.invokespecial 36, 3) := dk_183 0 36 (dk_at dksJ2_init_2 10 rfl rfl)
theorem dJ2_init_59 : decode cJ2_init 59 = .ok (.athrow, 1) := dk_191 (dk_at dksJ2_init_2 13 rfl rfl)
theorem dJ2_init_60 : decode cJ2_init 60 = .ok (.return_, 1) := dk_177 (dk_at dksJ2_init_2 14 rfl rfl)
abbrev cJ2_add : ByteArray := prog_45_method_25_code
def yJ2_add : MethodName := ⟨RJ2, "add", "(Ljava/lang/Object;)Z"⟩
def dkwJ2_add_1 : List UInt8 := [172]
abbrev dktJ2_add_1 : List UInt8 := dkwJ2_add_1 ++ []
def dkwJ2_add_0 : List UInt8 := [42, 89, 180, 0, 63, 4, 96, 181, 0, 63, 42, 43, 42, 180, 0, 9, 42, 180, 0, 48, 182, 0, 131, 4]
abbrev dktJ2_add_0 : List UInt8 := dkwJ2_add_0 ++ dktJ2_add_1
theorem dksJ2_add_0 : cJ2_add.data.toList.drop 0 = dktJ2_add_0 := by decide +kernel
theorem dksJ2_add_1 : cJ2_add.data.toList.drop 24 = dktJ2_add_1 := dk_seg dksJ2_add_0 24 rfl rfl
theorem dJ2_add_0 : decode cJ2_add 0 = .ok (.aload_n 0, 1) := dk_42 (dk_at dksJ2_add_0 0 rfl rfl)
theorem dJ2_add_1 : decode cJ2_add 1 = .ok (.dup, 1) := dk_89 (dk_at dksJ2_add_0 1 rfl rfl)
theorem dJ2_add_2 : decode cJ2_add 2 = .ok (.getfield 63, 3) := dk_180 0 63 (dk_at dksJ2_add_0 2 rfl rfl)
theorem dJ2_add_5 : decode cJ2_add 5 = .ok (.iconst 1, 1) := dk_4 (dk_at dksJ2_add_0 5 rfl rfl)
theorem dJ2_add_6 : decode cJ2_add 6 = .ok (.iadd, 1) := dk_96 (dk_at dksJ2_add_0 6 rfl rfl)
theorem dJ2_add_7 : decode cJ2_add 7 = .ok (.putfield 63, 3) := dk_181 0 63 (dk_at dksJ2_add_0 7 rfl rfl)
theorem dJ2_add_10 : decode cJ2_add 10 = .ok (.aload_n 0, 1) := dk_42 (dk_at dksJ2_add_0 10 rfl rfl)
theorem dJ2_add_11 : decode cJ2_add 11 = .ok (.aload_n 1, 1) := dk_43 (dk_at dksJ2_add_0 11 rfl rfl)
theorem dJ2_add_12 : decode cJ2_add 12 = .ok (.aload_n 0, 1) := dk_42 (dk_at dksJ2_add_0 12 rfl rfl)
theorem dJ2_add_13 : decode cJ2_add 13 = .ok (.getfield 9, 3) := dk_180 0 9 (dk_at dksJ2_add_0 13 rfl rfl)
theorem dJ2_add_16 : decode cJ2_add 16 = .ok (.aload_n 0, 1) := dk_42 (dk_at dksJ2_add_0 16 rfl rfl)
theorem dJ2_add_17 : decode cJ2_add 17 = .ok (.getfield 48, 3) := dk_180 0 48 (dk_at dksJ2_add_0 17 rfl rfl)
theorem dJ2_add_20 : decode cJ2_add 20 = .ok (.invokevirtual 131, 3) := dk_182 0 131 (dk_at dksJ2_add_0 20 rfl rfl)
theorem dJ2_add_23 : decode cJ2_add 23 = .ok (.iconst 1, 1) := dk_4 (dk_at dksJ2_add_0 23 rfl rfl)
theorem dJ2_add_24 : decode cJ2_add 24 = .ok (.ireturn, 1) := dk_172 (dk_at dksJ2_add_1 0 rfl rfl)
abbrev cJ2_add_2 : ByteArray := prog_45_method_24_code
def yJ2_add_2 : MethodName := ⟨RJ2, "add", "(Ljava/lang/Object;[Ljava/lang/Object;I)V"⟩
def dkwJ2_add_2_0 : List UInt8 := [29, 44, 190, 160, 0, 8, 42, 182, 0, 129, 77, 44, 29, 43, 83, 42, 29, 4, 96, 181, 0, 48, 177]
abbrev dktJ2_add_2_0 : List UInt8 := dkwJ2_add_2_0 ++ []
theorem dksJ2_add_2_0 : cJ2_add_2.data.toList.drop 0 = dktJ2_add_2_0 := by decide +kernel
theorem dJ2_add_2_0 : decode cJ2_add_2 0 = .ok (.iload_n 3, 1) := dk_29 (dk_at dksJ2_add_2_0 0 rfl rfl)
theorem dJ2_add_2_1 : decode cJ2_add_2 1 = .ok (.aload_n 2, 1) := dk_44 (dk_at dksJ2_add_2_0 1 rfl rfl)
theorem dJ2_add_2_2 : decode cJ2_add_2 2 = .ok (.arraylength, 1) := dk_190 (dk_at dksJ2_add_2_0 2 rfl rfl)
theorem dJ2_add_2_3 : decode cJ2_add_2 3 = .ok (.if_icmp .ne 8, 3) := dk_160 0 8 (dk_at dksJ2_add_2_0 3 rfl rfl)
theorem dJ2_add_2_6 : decode cJ2_add_2 6 = .ok (.aload_n 0, 1) := dk_42 (dk_at dksJ2_add_2_0 6 rfl rfl)
theorem dJ2_add_2_7 : decode cJ2_add_2 7 = .ok (.invokevirtual 129, 3) := dk_182 0 129 (dk_at dksJ2_add_2_0 7 rfl rfl)
theorem dJ2_add_2_10 : decode cJ2_add_2 10 = .ok (.astore_n 2, 1) := dk_77 (dk_at dksJ2_add_2_0 10 rfl rfl)
theorem dJ2_add_2_11 : decode cJ2_add_2 11 = .ok (.aload_n 2, 1) := dk_44 (dk_at dksJ2_add_2_0 11 rfl rfl)
theorem dJ2_add_2_12 : decode cJ2_add_2 12 = .ok (.iload_n 3, 1) := dk_29 (dk_at dksJ2_add_2_0 12 rfl rfl)
theorem dJ2_add_2_13 : decode cJ2_add_2 13 = .ok (.aload_n 1, 1) := dk_43 (dk_at dksJ2_add_2_0 13 rfl rfl)
theorem dJ2_add_2_14 : decode cJ2_add_2 14 = .ok (.aastore, 1) := dk_83 (dk_at dksJ2_add_2_0 14 rfl rfl)
theorem dJ2_add_2_15 : decode cJ2_add_2 15 = .ok (.aload_n 0, 1) := dk_42 (dk_at dksJ2_add_2_0 15 rfl rfl)
theorem dJ2_add_2_16 : decode cJ2_add_2 16 = .ok (.iload_n 3, 1) := dk_29 (dk_at dksJ2_add_2_0 16 rfl rfl)
theorem dJ2_add_2_17 : decode cJ2_add_2 17 = .ok (.iconst 1, 1) := dk_4 (dk_at dksJ2_add_2_0 17 rfl rfl)
theorem dJ2_add_2_18 : decode cJ2_add_2 18 = .ok (.iadd, 1) := dk_96 (dk_at dksJ2_add_2_0 18 rfl rfl)
theorem dJ2_add_2_19 : decode cJ2_add_2 19 = .ok (.putfield 48, 3) := dk_181 0 48 (dk_at dksJ2_add_2_0 19 rfl rfl)
theorem dJ2_add_2_22 : decode cJ2_add_2 22 = .ok (.return_, 1) := dk_177 (dk_at dksJ2_add_2_0 22 rfl rfl)
abbrev cJ2_grow : ByteArray := prog_45_method_7_code
def yJ2_grow : MethodName := ⟨RJ2, "grow", "()[Ljava/lang/Object;"⟩
def dkwJ2_grow_0 : List UInt8 := [42, 42, 180, 0, 48, 4, 96, 182, 0, 69, 176]
abbrev dktJ2_grow_0 : List UInt8 := dkwJ2_grow_0 ++ []
theorem dksJ2_grow_0 : cJ2_grow.data.toList.drop 0 = dktJ2_grow_0 := by decide +kernel
theorem dJ2_grow_0 : decode cJ2_grow 0 = .ok (.aload_n 0, 1) := dk_42 (dk_at dksJ2_grow_0 0 rfl rfl)
theorem dJ2_grow_1 : decode cJ2_grow 1 = .ok (.aload_n 0, 1) := dk_42 (dk_at dksJ2_grow_0 1 rfl rfl)
theorem dJ2_grow_2 : decode cJ2_grow 2 = .ok (.getfield 48, 3) := dk_180 0 48 (dk_at dksJ2_grow_0 2 rfl rfl)
theorem dJ2_grow_5 : decode cJ2_grow 5 = .ok (.iconst 1, 1) := dk_4 (dk_at dksJ2_grow_0 5 rfl rfl)
theorem dJ2_grow_6 : decode cJ2_grow 6 = .ok (.iadd, 1) := dk_96 (dk_at dksJ2_grow_0 6 rfl rfl)
theorem dJ2_grow_7 : decode cJ2_grow 7 = .ok (.invokevirtual 69, 3) := dk_182 0 69 (dk_at dksJ2_grow_0 7 rfl rfl)
theorem dJ2_grow_10 : decode cJ2_grow 10 = .ok (.areturn, 1) := dk_176 (dk_at dksJ2_grow_0 10 rfl rfl)
abbrev cJ2_grow_2 : ByteArray := prog_45_method_6_code
def yJ2_grow_2 : MethodName := ⟨RJ2, "grow", "(I)[Ljava/lang/Object;"⟩
def dkwJ2_grow_2_2 : List UInt8 := [27, 184, 0, 79, 189, 0, 7, 90, 181, 0, 9, 176]
abbrev dktJ2_grow_2_2 : List UInt8 := dkwJ2_grow_2_2 ++ []
def dkwJ2_grow_2_1 : List UInt8 := [28, 4, 122, 184, 0, 73, 62, 42, 42, 180, 0, 9, 29, 184, 0, 66, 90, 181, 0, 9, 176, 42, 16, 10]
abbrev dktJ2_grow_2_1 : List UInt8 := dkwJ2_grow_2_1 ++ dktJ2_grow_2_2
def dkwJ2_grow_2_0 : List UInt8 := [42, 180, 0, 9, 190, 61, 28, 157, 0, 13, 42, 180, 0, 9, 178, 0, 39, 165, 0, 28, 28, 27, 28, 100]
abbrev dktJ2_grow_2_0 : List UInt8 := dkwJ2_grow_2_0 ++ dktJ2_grow_2_1
theorem dksJ2_grow_2_0 : cJ2_grow_2.data.toList.drop 0 = dktJ2_grow_2_0 := by decide +kernel
theorem dksJ2_grow_2_1 : cJ2_grow_2.data.toList.drop 24 = dktJ2_grow_2_1 := dk_seg dksJ2_grow_2_0 24 rfl rfl
theorem dksJ2_grow_2_2 : cJ2_grow_2.data.toList.drop 48 = dktJ2_grow_2_2 := dk_seg dksJ2_grow_2_1 24 rfl rfl
theorem dJ2_grow_2_0 : decode cJ2_grow_2 0 = .ok (.aload_n 0, 1) := dk_42 (dk_at dksJ2_grow_2_0 0 rfl rfl)
theorem dJ2_grow_2_1 : decode cJ2_grow_2 1 = .ok (.getfield 9, 3) := dk_180 0 9 (dk_at dksJ2_grow_2_0 1 rfl rfl)
theorem dJ2_grow_2_4 : decode cJ2_grow_2 4 = .ok (.arraylength, 1) := dk_190 (dk_at dksJ2_grow_2_0 4 rfl rfl)
theorem dJ2_grow_2_5 : decode cJ2_grow_2 5 = .ok (.istore_n 2, 1) := dk_61 (dk_at dksJ2_grow_2_0 5 rfl rfl)
theorem dJ2_grow_2_6 : decode cJ2_grow_2 6 = .ok (.iload_n 2, 1) := dk_28 (dk_at dksJ2_grow_2_0 6 rfl rfl)
theorem dJ2_grow_2_7 : decode cJ2_grow_2 7 = .ok (.ifCond .gt 13, 3) := dk_157 0 13 (dk_at dksJ2_grow_2_0 7 rfl rfl)
theorem dJ2_grow_2_10 : decode cJ2_grow_2 10 = .ok (.aload_n 0, 1) := dk_42 (dk_at dksJ2_grow_2_0 10 rfl rfl)
theorem dJ2_grow_2_11 : decode cJ2_grow_2 11 = .ok (.getfield 9, 3) := dk_180 0 9 (dk_at dksJ2_grow_2_0 11 rfl rfl)
theorem dJ2_grow_2_14 : decode cJ2_grow_2 14 = .ok (.getstatic 39, 3) := dk_178 0 39 (dk_at dksJ2_grow_2_0 14 rfl rfl)
theorem dJ2_grow_2_17 : decode cJ2_grow_2 17 = .ok (.if_acmp .eq 28, 3) := dk_165 0 28 (dk_at dksJ2_grow_2_0 17 rfl rfl)
theorem dJ2_grow_2_20 : decode cJ2_grow_2 20 = .ok (.iload_n 2, 1) := dk_28 (dk_at dksJ2_grow_2_0 20 rfl rfl)
theorem dJ2_grow_2_21 : decode cJ2_grow_2 21 = .ok (.iload_n 1, 1) := dk_27 (dk_at dksJ2_grow_2_0 21 rfl rfl)
theorem dJ2_grow_2_22 : decode cJ2_grow_2 22 = .ok (.iload_n 2, 1) := dk_28 (dk_at dksJ2_grow_2_0 22 rfl rfl)
theorem dJ2_grow_2_23 : decode cJ2_grow_2 23 = .ok (.isub, 1) := dk_100 (dk_at dksJ2_grow_2_0 23 rfl rfl)
theorem dJ2_grow_2_24 : decode cJ2_grow_2 24 = .ok (.iload_n 2, 1) := dk_28 (dk_at dksJ2_grow_2_1 0 rfl rfl)
theorem dJ2_grow_2_25 : decode cJ2_grow_2 25 = .ok (.iconst 1, 1) := dk_4 (dk_at dksJ2_grow_2_1 1 rfl rfl)
theorem dJ2_grow_2_26 : decode cJ2_grow_2 26 = .ok (.ishr, 1) := dk_122 (dk_at dksJ2_grow_2_1 2 rfl rfl)
theorem dJ2_grow_2_27 : decode cJ2_grow_2 27 = .ok (.invokestatic 73, 3) := dk_184 0 73 (dk_at dksJ2_grow_2_1 3 rfl rfl)
theorem dJ2_grow_2_30 : decode cJ2_grow_2 30 = .ok (.istore_n 3, 1) := dk_62 (dk_at dksJ2_grow_2_1 6 rfl rfl)
theorem dJ2_grow_2_31 : decode cJ2_grow_2 31 = .ok (.aload_n 0, 1) := dk_42 (dk_at dksJ2_grow_2_1 7 rfl rfl)
theorem dJ2_grow_2_32 : decode cJ2_grow_2 32 = .ok (.aload_n 0, 1) := dk_42 (dk_at dksJ2_grow_2_1 8 rfl rfl)
theorem dJ2_grow_2_33 : decode cJ2_grow_2 33 = .ok (.getfield 9, 3) := dk_180 0 9 (dk_at dksJ2_grow_2_1 9 rfl rfl)
theorem dJ2_grow_2_36 : decode cJ2_grow_2 36 = .ok (.iload_n 3, 1) := dk_29 (dk_at dksJ2_grow_2_1 12 rfl rfl)
theorem dJ2_grow_2_37 : decode cJ2_grow_2 37 = .ok (.invokestatic 66, 3) := dk_184 0 66 (dk_at dksJ2_grow_2_1 13 rfl rfl)
theorem dJ2_grow_2_40 : decode cJ2_grow_2 40 = .ok (.dup_x1, 1) := dk_90 (dk_at dksJ2_grow_2_1 16 rfl rfl)
theorem dJ2_grow_2_41 : decode cJ2_grow_2 41 = .ok (.putfield 9, 3) := dk_181 0 9 (dk_at dksJ2_grow_2_1 17 rfl rfl)
theorem dJ2_grow_2_44 : decode cJ2_grow_2 44 = .ok (.areturn, 1) := dk_176 (dk_at dksJ2_grow_2_1 20 rfl rfl)
theorem dJ2_grow_2_45 : decode cJ2_grow_2 45 = .ok (.aload_n 0, 1) := dk_42 (dk_at dksJ2_grow_2_1 21 rfl rfl)
theorem dJ2_grow_2_46 : decode cJ2_grow_2 46 = .ok (.bipush 10, 2) := dk_16 10 (dk_at dksJ2_grow_2_1 22 rfl rfl)
theorem dJ2_grow_2_48 : decode cJ2_grow_2 48 = .ok (.iload_n 1, 1) := dk_27 (dk_at dksJ2_grow_2_2 0 rfl rfl)
theorem dJ2_grow_2_49 : decode cJ2_grow_2 49 = .ok (.invokestatic 79, 3) := dk_184 0 79 (dk_at dksJ2_grow_2_2 1 rfl rfl)
theorem dJ2_grow_2_52 : decode cJ2_grow_2 52 = .ok (.anewarray 7, 3) := dk_189 0 7 (dk_at dksJ2_grow_2_2 4 rfl rfl)
theorem dJ2_grow_2_55 : decode cJ2_grow_2 55 = .ok (.dup_x1, 1) := dk_90 (dk_at dksJ2_grow_2_2 7 rfl rfl)
theorem dJ2_grow_2_56 : decode cJ2_grow_2 56 = .ok (.putfield 9, 3) := dk_181 0 9 (dk_at dksJ2_grow_2_2 8 rfl rfl)
theorem dJ2_grow_2_59 : decode cJ2_grow_2 59 = .ok (.areturn, 1) := dk_176 (dk_at dksJ2_grow_2_2 11 rfl rfl)
abbrev cJ2_size : ByteArray := prog_45_method_8_code
def yJ2_size : MethodName := ⟨RJ2, "size", "()I"⟩
theorem dJ2_size_0 : decode cJ2_size 0 = .ok (.aload_n 0, 1) := by decide +kernel
theorem dJ2_size_1 : decode cJ2_size 1 = .ok (.getfield 48, 3) := by decide +kernel
theorem dJ2_size_4 : decode cJ2_size 4 = .ok (.ireturn, 1) := by decide +kernel
abbrev cJ2_get : ByteArray := prog_45_method_20_code
def yJ2_get : MethodName := ⟨RJ2, "get", "(I)Ljava/lang/Object;"⟩
def dkwJ2_get_0 : List UInt8 := [27, 42, 180, 0, 48, 184, 0, 118, 87, 42, 27, 182, 0, 123, 176]
abbrev dktJ2_get_0 : List UInt8 := dkwJ2_get_0 ++ []
theorem dksJ2_get_0 : cJ2_get.data.toList.drop 0 = dktJ2_get_0 := by decide +kernel
theorem dJ2_get_0 : decode cJ2_get 0 = .ok (.iload_n 1, 1) := dk_27 (dk_at dksJ2_get_0 0 rfl rfl)
theorem dJ2_get_1 : decode cJ2_get 1 = .ok (.aload_n 0, 1) := dk_42 (dk_at dksJ2_get_0 1 rfl rfl)
theorem dJ2_get_2 : decode cJ2_get 2 = .ok (.getfield 48, 3) := dk_180 0 48 (dk_at dksJ2_get_0 2 rfl rfl)
theorem dJ2_get_5 : decode cJ2_get 5 = .ok (.invokestatic 118, 3) := dk_184 0 118 (dk_at dksJ2_get_0 5 rfl rfl)
theorem dJ2_get_8 : decode cJ2_get 8 = .ok (.pop, 1) := dk_87 (dk_at dksJ2_get_0 8 rfl rfl)
theorem dJ2_get_9 : decode cJ2_get 9 = .ok (.aload_n 0, 1) := dk_42 (dk_at dksJ2_get_0 9 rfl rfl)
theorem dJ2_get_10 : decode cJ2_get 10 = .ok (.iload_n 1, 1) := dk_27 (dk_at dksJ2_get_0 10 rfl rfl)
theorem dJ2_get_11 : decode cJ2_get 11 = .ok (.invokevirtual 123, 3) := dk_182 0 123 (dk_at dksJ2_get_0 11 rfl rfl)
theorem dJ2_get_14 : decode cJ2_get 14 = .ok (.areturn, 1) := dk_176 (dk_at dksJ2_get_0 14 rfl rfl)
abbrev cJ2_elementData : ByteArray := prog_45_method_18_code
def yJ2_elementData : MethodName := ⟨RJ2, "elementData", "(I)Ljava/lang/Object;"⟩
def dkwJ2_elementData_0 : List UInt8 := [42, 180, 0, 9, 27, 50, 176]
abbrev dktJ2_elementData_0 : List UInt8 := dkwJ2_elementData_0 ++ []
theorem dksJ2_elementData_0 : cJ2_elementData.data.toList.drop 0 = dktJ2_elementData_0 := by decide +kernel
theorem dJ2_elementData_0 : decode cJ2_elementData 0 = .ok (.aload_n 0, 1) := dk_42 (dk_at dksJ2_elementData_0 0 rfl rfl)
theorem dJ2_elementData_1 : decode cJ2_elementData 1 = .ok (.getfield 9, 3) := dk_180 0 9 (dk_at dksJ2_elementData_0 1 rfl rfl)
theorem dJ2_elementData_4 : decode cJ2_elementData 4 = .ok (.iload_n 1, 1) := dk_27 (dk_at dksJ2_elementData_0 4 rfl rfl)
theorem dJ2_elementData_5 : decode cJ2_elementData 5 = .ok (.aaload, 1) := dk_50 (dk_at dksJ2_elementData_0 5 rfl rfl)
theorem dJ2_elementData_6 : decode cJ2_elementData 6 = .ok (.areturn, 1) := dk_176 (dk_at dksJ2_elementData_0 6 rfl rfl)
abbrev cJ2_remove : ByteArray := prog_45_method_29_code
def yJ2_remove : MethodName := ⟨RJ2, "remove", "(I)Ljava/lang/Object;"⟩
def dkwJ2_remove_1 : List UInt8 := [45, 176]
abbrev dktJ2_remove_1 : List UInt8 := dkwJ2_remove_1 ++ []
def dkwJ2_remove_0 : List UInt8 := [27, 42, 180, 0, 48, 184, 0, 118, 87, 42, 180, 0, 9, 77, 44, 27, 50, 78, 42, 44, 27, 182, 0, 144]
abbrev dktJ2_remove_0 : List UInt8 := dkwJ2_remove_0 ++ dktJ2_remove_1
theorem dksJ2_remove_0 : cJ2_remove.data.toList.drop 0 = dktJ2_remove_0 := by decide +kernel
theorem dksJ2_remove_1 : cJ2_remove.data.toList.drop 24 = dktJ2_remove_1 := dk_seg dksJ2_remove_0 24 rfl rfl
theorem dJ2_remove_0 : decode cJ2_remove 0 = .ok (.iload_n 1, 1) := dk_27 (dk_at dksJ2_remove_0 0 rfl rfl)
theorem dJ2_remove_1 : decode cJ2_remove 1 = .ok (.aload_n 0, 1) := dk_42 (dk_at dksJ2_remove_0 1 rfl rfl)
theorem dJ2_remove_2 : decode cJ2_remove 2 = .ok (.getfield 48, 3) := dk_180 0 48 (dk_at dksJ2_remove_0 2 rfl rfl)
theorem dJ2_remove_5 : decode cJ2_remove 5 = .ok (.invokestatic 118, 3) := dk_184 0 118 (dk_at dksJ2_remove_0 5 rfl rfl)
theorem dJ2_remove_8 : decode cJ2_remove 8 = .ok (.pop, 1) := dk_87 (dk_at dksJ2_remove_0 8 rfl rfl)
theorem dJ2_remove_9 : decode cJ2_remove 9 = .ok (.aload_n 0, 1) := dk_42 (dk_at dksJ2_remove_0 9 rfl rfl)
theorem dJ2_remove_10 : decode cJ2_remove 10 = .ok (.getfield 9, 3) := dk_180 0 9 (dk_at dksJ2_remove_0 10 rfl rfl)
theorem dJ2_remove_13 : decode cJ2_remove 13 = .ok (.astore_n 2, 1) := dk_77 (dk_at dksJ2_remove_0 13 rfl rfl)
theorem dJ2_remove_14 : decode cJ2_remove 14 = .ok (.aload_n 2, 1) := dk_44 (dk_at dksJ2_remove_0 14 rfl rfl)
theorem dJ2_remove_15 : decode cJ2_remove 15 = .ok (.iload_n 1, 1) := dk_27 (dk_at dksJ2_remove_0 15 rfl rfl)
theorem dJ2_remove_16 : decode cJ2_remove 16 = .ok (.aaload, 1) := dk_50 (dk_at dksJ2_remove_0 16 rfl rfl)
theorem dJ2_remove_17 : decode cJ2_remove 17 = .ok (.astore_n 3, 1) := dk_78 (dk_at dksJ2_remove_0 17 rfl rfl)
theorem dJ2_remove_18 : decode cJ2_remove 18 = .ok (.aload_n 0, 1) := dk_42 (dk_at dksJ2_remove_0 18 rfl rfl)
theorem dJ2_remove_19 : decode cJ2_remove 19 = .ok (.aload_n 2, 1) := dk_44 (dk_at dksJ2_remove_0 19 rfl rfl)
theorem dJ2_remove_20 : decode cJ2_remove 20 = .ok (.iload_n 1, 1) := dk_27 (dk_at dksJ2_remove_0 20 rfl rfl)
theorem dJ2_remove_21 : decode cJ2_remove 21 = .ok (.invokevirtual 144, 3) := dk_182 0 144 (dk_at dksJ2_remove_0 21 rfl rfl)
theorem dJ2_remove_24 : decode cJ2_remove 24 = .ok (.aload_n 3, 1) := dk_45 (dk_at dksJ2_remove_1 0 rfl rfl)
theorem dJ2_remove_25 : decode cJ2_remove 25 = .ok (.areturn, 1) := dk_176 (dk_at dksJ2_remove_1 1 rfl rfl)
abbrev cJ2_fastRemove : ByteArray := prog_45_method_39_code
def yJ2_fastRemove : MethodName := ⟨RJ2, "fastRemove", "([Ljava/lang/Object;I)V"⟩
def dkwJ2_fastRemove_1 : List UInt8 := [4, 96, 43, 28, 29, 28, 100, 184, 0, 112, 43, 42, 29, 90, 181, 0, 48, 1, 83, 177]
abbrev dktJ2_fastRemove_1 : List UInt8 := dkwJ2_fastRemove_1 ++ []
def dkwJ2_fastRemove_0 : List UInt8 := [42, 89, 180, 0, 63, 4, 96, 181, 0, 63, 42, 180, 0, 48, 4, 100, 89, 62, 28, 164, 0, 15, 43, 28]
abbrev dktJ2_fastRemove_0 : List UInt8 := dkwJ2_fastRemove_0 ++ dktJ2_fastRemove_1
theorem dksJ2_fastRemove_0 : cJ2_fastRemove.data.toList.drop 0 = dktJ2_fastRemove_0 := by decide +kernel
theorem dksJ2_fastRemove_1 : cJ2_fastRemove.data.toList.drop 24 = dktJ2_fastRemove_1 := dk_seg dksJ2_fastRemove_0 24 rfl rfl
theorem dJ2_fastRemove_0 : decode cJ2_fastRemove 0 = .ok (.aload_n 0, 1) := dk_42 (dk_at dksJ2_fastRemove_0 0 rfl rfl)
theorem dJ2_fastRemove_1 : decode cJ2_fastRemove 1 = .ok (.dup, 1) := dk_89 (dk_at dksJ2_fastRemove_0 1 rfl rfl)
theorem dJ2_fastRemove_2 : decode cJ2_fastRemove 2 = .ok (.getfield 63, 3) := dk_180 0 63 (dk_at dksJ2_fastRemove_0 2 rfl rfl)
theorem dJ2_fastRemove_5 : decode cJ2_fastRemove 5 = .ok (.iconst 1, 1) := dk_4 (dk_at dksJ2_fastRemove_0 5 rfl rfl)
theorem dJ2_fastRemove_6 : decode cJ2_fastRemove 6 = .ok (.iadd, 1) := dk_96 (dk_at dksJ2_fastRemove_0 6 rfl rfl)
theorem dJ2_fastRemove_7 : decode cJ2_fastRemove 7 = .ok (.putfield 63, 3) := dk_181 0 63 (dk_at dksJ2_fastRemove_0 7 rfl rfl)
theorem dJ2_fastRemove_10 : decode cJ2_fastRemove 10 = .ok (.aload_n 0, 1) := dk_42 (dk_at dksJ2_fastRemove_0 10 rfl rfl)
theorem dJ2_fastRemove_11 : decode cJ2_fastRemove 11 = .ok (.getfield 48, 3) := dk_180 0 48 (dk_at dksJ2_fastRemove_0 11 rfl rfl)
theorem dJ2_fastRemove_14 : decode cJ2_fastRemove 14 = .ok (.iconst 1, 1) := dk_4 (dk_at dksJ2_fastRemove_0 14 rfl rfl)
theorem dJ2_fastRemove_15 : decode cJ2_fastRemove 15 = .ok (.isub, 1) := dk_100 (dk_at dksJ2_fastRemove_0 15 rfl rfl)
theorem dJ2_fastRemove_16 : decode cJ2_fastRemove 16 = .ok (.dup, 1) := dk_89 (dk_at dksJ2_fastRemove_0 16 rfl rfl)
theorem dJ2_fastRemove_17 : decode cJ2_fastRemove 17 = .ok (.istore_n 3, 1) := dk_62 (dk_at dksJ2_fastRemove_0 17 rfl rfl)
theorem dJ2_fastRemove_18 : decode cJ2_fastRemove 18 = .ok (.iload_n 2, 1) := dk_28 (dk_at dksJ2_fastRemove_0 18 rfl rfl)
theorem dJ2_fastRemove_19 : decode cJ2_fastRemove 19 = .ok (.if_icmp .le 15, 3) := dk_164 0 15 (dk_at dksJ2_fastRemove_0 19 rfl rfl)
theorem dJ2_fastRemove_22 : decode cJ2_fastRemove 22 = .ok (.aload_n 1, 1) := dk_43 (dk_at dksJ2_fastRemove_0 22 rfl rfl)
theorem dJ2_fastRemove_23 : decode cJ2_fastRemove 23 = .ok (.iload_n 2, 1) := dk_28 (dk_at dksJ2_fastRemove_0 23 rfl rfl)
theorem dJ2_fastRemove_24 : decode cJ2_fastRemove 24 = .ok (.iconst 1, 1) := dk_4 (dk_at dksJ2_fastRemove_1 0 rfl rfl)
theorem dJ2_fastRemove_25 : decode cJ2_fastRemove 25 = .ok (.iadd, 1) := dk_96 (dk_at dksJ2_fastRemove_1 1 rfl rfl)
theorem dJ2_fastRemove_26 : decode cJ2_fastRemove 26 = .ok (.aload_n 1, 1) := dk_43 (dk_at dksJ2_fastRemove_1 2 rfl rfl)
theorem dJ2_fastRemove_27 : decode cJ2_fastRemove 27 = .ok (.iload_n 2, 1) := dk_28 (dk_at dksJ2_fastRemove_1 3 rfl rfl)
theorem dJ2_fastRemove_28 : decode cJ2_fastRemove 28 = .ok (.iload_n 3, 1) := dk_29 (dk_at dksJ2_fastRemove_1 4 rfl rfl)
theorem dJ2_fastRemove_29 : decode cJ2_fastRemove 29 = .ok (.iload_n 2, 1) := dk_28 (dk_at dksJ2_fastRemove_1 5 rfl rfl)
theorem dJ2_fastRemove_30 : decode cJ2_fastRemove 30 = .ok (.isub, 1) := dk_100 (dk_at dksJ2_fastRemove_1 6 rfl rfl)
theorem dJ2_fastRemove_31 : decode cJ2_fastRemove 31 = .ok (.invokestatic 112, 3) := dk_184 0 112 (dk_at dksJ2_fastRemove_1 7 rfl rfl)
theorem dJ2_fastRemove_34 : decode cJ2_fastRemove 34 = .ok (.aload_n 1, 1) := dk_43 (dk_at dksJ2_fastRemove_1 10 rfl rfl)
theorem dJ2_fastRemove_35 : decode cJ2_fastRemove 35 = .ok (.aload_n 0, 1) := dk_42 (dk_at dksJ2_fastRemove_1 11 rfl rfl)
theorem dJ2_fastRemove_36 : decode cJ2_fastRemove 36 = .ok (.iload_n 3, 1) := dk_29 (dk_at dksJ2_fastRemove_1 12 rfl rfl)
theorem dJ2_fastRemove_37 : decode cJ2_fastRemove 37 = .ok (.dup_x1, 1) := dk_90 (dk_at dksJ2_fastRemove_1 13 rfl rfl)
theorem dJ2_fastRemove_38 : decode cJ2_fastRemove 38 = .ok (.putfield 48, 3) := dk_181 0 48 (dk_at dksJ2_fastRemove_1 14 rfl rfl)
theorem dJ2_fastRemove_41 : decode cJ2_fastRemove 41 = .ok (.aconst_null, 1) := dk_1 (dk_at dksJ2_fastRemove_1 17 rfl rfl)
theorem dJ2_fastRemove_42 : decode cJ2_fastRemove 42 = .ok (.aastore, 1) := dk_83 (dk_at dksJ2_fastRemove_1 18 rfl rfl)
theorem dJ2_fastRemove_43 : decode cJ2_fastRemove 43 = .ok (.return_, 1) := dk_177 (dk_at dksJ2_fastRemove_1 19 rfl rfl)
theorem q110 : (Jvm.Cond.initialized "java/util/ArrayList") ∈ lw_all := lw_g (lw_at lw_m1 5 rfl) rfl
theorem q162 : (Jvm.Cond.instantiable "java/util/ArrayList" (3 : Nat)) ∈ lw_all := lw_g (lw_at lw_m1 57 rfl) rfl
theorem q164 : (Jvm.Cond.instanceMethod ({ cls := "java/util/ArrayList", name := "<init>", desc := "(I)V" } : Jvm.MethodName)) ∈ lw_all := lw_g (lw_at lw_m1 59 rfl) rfl
theorem q165 : (Jvm.Cond.code ({ cls := "java/util/ArrayList", name := "<init>", desc := "(I)V" } : Jvm.MethodName) prog_45_method_1_code (2 : Nat) (Option.none : Option Jvm.ClassFile.FieldType)) ∈ lw_all := lw_g (lw_at lw_m1 60 rfl) rfl
theorem q166 : (Jvm.Cond.methodLink "java/util/ArrayList" (1 : Nat) ({ cls := "java/util/AbstractList", name := "<init>", desc := "()V" } : Jvm.MethodName)) ∈ lw_all := lw_g (lw_at lw_m1 61 rfl) rfl
theorem q173 : (Jvm.Cond.classLink "java/util/ArrayList" (7 : Nat) "java/lang/Object") ∈ lw_all := lw_g (lw_at lw_m1 68 rfl) rfl
theorem q175 : (Jvm.Cond.fieldLink "java/util/ArrayList" (15 : Nat) "java/util/ArrayList" "EMPTY_ELEMENTDATA" "[Ljava/lang/Object;") ∈ lw_all := lw_g (lw_at lw_m1 70 rfl) rfl
theorem q176 : (Jvm.Cond.laysStatic "java/util/ArrayList" "EMPTY_ELEMENTDATA" "[Ljava/lang/Object;") ∈ lw_tbl := lw_at lw_m1 71 rfl
theorem q177 : (Jvm.Cond.classLink "java/util/ArrayList" (18 : Nat) "java/lang/IllegalArgumentException") ∈ lw_all := lw_g (lw_at lw_m1 72 rfl) rfl
theorem q218 : (Jvm.Cond.classLink "java/util/ArrayList" (20 : Nat) "java/lang/StringBuilder") ∈ lw_all := lw_g (lw_at lw_m1 113 rfl) rfl
theorem q220 : (Jvm.Cond.methodLink "java/util/ArrayList" (22 : Nat) ({ cls := "java/lang/StringBuilder", name := "<init>", desc := "()V" } : Jvm.MethodName)) ∈ lw_all := lw_g (lw_at lw_m1 115 rfl) rfl
theorem q251 : (Jvm.Cond.stringRef "java/util/ArrayList" (23 : Nat) "Illegal Capacity: ") ∈ lw_tbl := lw_at lw_m1 146 rfl
theorem q252 : (Jvm.Cond.methodLink "java/util/ArrayList" (25 : Nat) ({ cls := "java/lang/StringBuilder", name := "append", desc := "(Ljava/lang/String;)Ljava/lang/StringBuilder;" } : Jvm.MethodName)) ∈ lw_all := lw_g (lw_at lw_m1 147 rfl) rfl
theorem q372 : (Jvm.Cond.methodLink "java/util/ArrayList" (29 : Nat) ({ cls := "java/lang/StringBuilder", name := "append", desc := "(I)Ljava/lang/StringBuilder;" } : Jvm.MethodName)) ∈ lw_all := lw_g (lw_at lw_m2 27 rfl) rfl
theorem q397 : (Jvm.Cond.methodLink "java/util/ArrayList" (32 : Nat) ({ cls := "java/lang/StringBuilder", name := "toString", desc := "()Ljava/lang/String;" } : Jvm.MethodName)) ∈ lw_all := lw_g (lw_at lw_m2 52 rfl) rfl
theorem q489 : (Jvm.Cond.methodLink "java/util/ArrayList" (36 : Nat) ({ cls := "java/lang/IllegalArgumentException", name := "<init>", desc := "(Ljava/lang/String;)V" } : Jvm.MethodName)) ∈ lw_all := lw_g (lw_at lw_m2 144 rfl) rfl
theorem q490 : (Jvm.Cond.fieldLink "java/util/ArrayList" (9 : Nat) "java/util/ArrayList" "elementData" "[Ljava/lang/Object;") ∈ lw_all := lw_g (lw_at lw_m2 145 rfl) rfl
theorem q491 : (Jvm.Cond.fieldLink "java/util/ArrayList" (48 : Nat) "java/util/ArrayList" "size" "I") ∈ lw_all := lw_g (lw_at lw_m2 146 rfl) rfl
theorem q493 : (Jvm.Cond.fieldLink "java/util/ArrayList" (63 : Nat) "java/util/ArrayList" "modCount" "I") ∈ lw_all := lw_g (lw_at lw_m2 148 rfl) rfl
theorem q494 : (Jvm.Cond.sameField "java/util/ArrayList" "java/util/AbstractList" "modCount" "I") ∈ lw_all := lw_g (lw_at lw_m2 149 rfl) rfl
theorem q495 : (Jvm.Cond.lays "java/util/ArrayList" "java/util/ArrayList" "elementData" "[Ljava/lang/Object;") ∈ lw_all := lw_g (lw_at lw_m2 150 rfl) rfl
theorem q496 : (Jvm.Cond.soleField "java/util/ArrayList" "elementData") ∈ lw_all := lw_g (lw_at lw_m2 151 rfl) rfl
theorem q497 : (Jvm.Cond.lays "java/util/ArrayList" "java/util/ArrayList" "size" "I") ∈ lw_all := lw_g (lw_at lw_m2 152 rfl) rfl
theorem q498 : (Jvm.Cond.soleField "java/util/ArrayList" "size") ∈ lw_all := lw_g (lw_at lw_m2 153 rfl) rfl
theorem q499 : (Jvm.Cond.lays "java/util/ArrayList" "java/util/AbstractList" "modCount" "I") ∈ lw_all := lw_g (lw_at lw_m2 154 rfl) rfl
theorem q501 : (Jvm.Cond.superclass "java/util/ArrayList" "java/util/AbstractList") ∈ lw_all := lw_g (lw_at lw_m2 156 rfl) rfl
theorem q643 : (Jvm.Cond.instanceMethod ({ cls := "java/util/ArrayList", name := "add", desc := "(Ljava/lang/Object;)Z" } : Jvm.MethodName)) ∈ lw_all := lw_g (lw_at lw_m3 58 rfl) rfl
theorem q644 : (Jvm.Cond.selects "java/util/ArrayList" ({ cls := "java/util/ArrayList", name := "add", desc := "(Ljava/lang/Object;)Z" } : Jvm.MethodName) ({ cls := "java/util/ArrayList", name := "add", desc := "(Ljava/lang/Object;)Z" } : Jvm.MethodName)) ∈ lw_all := lw_g (lw_at lw_m3 59 rfl) rfl
theorem q645 : (Jvm.Cond.code ({ cls := "java/util/ArrayList", name := "add", desc := "(Ljava/lang/Object;)Z" } : Jvm.MethodName) prog_45_method_25_code (2 : Nat) (Option.some Jvm.ClassFile.FieldType.boolean)) ∈ lw_all := lw_g (lw_at lw_m3 60 rfl) rfl
theorem q646 : (Jvm.Cond.methodLink "java/util/ArrayList" (131 : Nat) ({ cls := "java/util/ArrayList", name := "add", desc := "(Ljava/lang/Object;[Ljava/lang/Object;I)V" } : Jvm.MethodName)) ∈ lw_all := lw_g (lw_at lw_m3 61 rfl) rfl
theorem q647 : (Jvm.Cond.privateMethod ({ cls := "java/util/ArrayList", name := "add", desc := "(Ljava/lang/Object;[Ljava/lang/Object;I)V" } : Jvm.MethodName)) ∈ lw_tbl := lw_at lw_m3 62 rfl
theorem q648 : (Jvm.Cond.instanceMethod ({ cls := "java/util/ArrayList", name := "add", desc := "(Ljava/lang/Object;[Ljava/lang/Object;I)V" } : Jvm.MethodName)) ∈ lw_all := lw_g (lw_at lw_m3 63 rfl) rfl
theorem q649 : (Jvm.Cond.code ({ cls := "java/util/ArrayList", name := "add", desc := "(Ljava/lang/Object;[Ljava/lang/Object;I)V" } : Jvm.MethodName) prog_45_method_24_code (4 : Nat) (Option.none : Option Jvm.ClassFile.FieldType)) ∈ lw_all := lw_g (lw_at lw_m3 64 rfl) rfl
theorem q650 : (Jvm.Cond.methodLink "java/util/ArrayList" (129 : Nat) ({ cls := "java/util/ArrayList", name := "grow", desc := "()[Ljava/lang/Object;" } : Jvm.MethodName)) ∈ lw_all := lw_g (lw_at lw_m3 65 rfl) rfl
theorem q651 : (Jvm.Cond.privateMethod ({ cls := "java/util/ArrayList", name := "grow", desc := "()[Ljava/lang/Object;" } : Jvm.MethodName)) ∈ lw_tbl := lw_at lw_m3 66 rfl
theorem q652 : (Jvm.Cond.instanceMethod ({ cls := "java/util/ArrayList", name := "grow", desc := "()[Ljava/lang/Object;" } : Jvm.MethodName)) ∈ lw_all := lw_g (lw_at lw_m3 67 rfl) rfl
theorem q653 : (Jvm.Cond.code ({ cls := "java/util/ArrayList", name := "grow", desc := "()[Ljava/lang/Object;" } : Jvm.MethodName) prog_45_method_7_code (1 : Nat) (Option.some (Jvm.ClassFile.FieldType.array (Jvm.ClassFile.FieldType.object "java/lang/Object")))) ∈ lw_all := lw_g (lw_at lw_m3 68 rfl) rfl
theorem q654 : (Jvm.Cond.methodLink "java/util/ArrayList" (69 : Nat) ({ cls := "java/util/ArrayList", name := "grow", desc := "(I)[Ljava/lang/Object;" } : Jvm.MethodName)) ∈ lw_all := lw_g (lw_at lw_m3 69 rfl) rfl
theorem q655 : (Jvm.Cond.privateMethod ({ cls := "java/util/ArrayList", name := "grow", desc := "(I)[Ljava/lang/Object;" } : Jvm.MethodName)) ∈ lw_tbl := lw_at lw_m3 70 rfl
theorem q656 : (Jvm.Cond.instanceMethod ({ cls := "java/util/ArrayList", name := "grow", desc := "(I)[Ljava/lang/Object;" } : Jvm.MethodName)) ∈ lw_all := lw_g (lw_at lw_m3 71 rfl) rfl
theorem q657 : (Jvm.Cond.code ({ cls := "java/util/ArrayList", name := "grow", desc := "(I)[Ljava/lang/Object;" } : Jvm.MethodName) prog_45_method_6_code (4 : Nat) (Option.some (Jvm.ClassFile.FieldType.array (Jvm.ClassFile.FieldType.object "java/lang/Object")))) ∈ lw_all := lw_g (lw_at lw_m3 72 rfl) rfl
theorem q658 : (Jvm.Cond.fieldLink "java/util/ArrayList" (39 : Nat) "java/util/ArrayList" "DEFAULTCAPACITY_EMPTY_ELEMENTDATA" "[Ljava/lang/Object;") ∈ lw_all := lw_g (lw_at lw_m3 73 rfl) rfl
theorem q659 : (Jvm.Cond.laysStatic "java/util/ArrayList" "DEFAULTCAPACITY_EMPTY_ELEMENTDATA" "[Ljava/lang/Object;") ∈ lw_tbl := lw_at lw_m3 74 rfl
theorem q660 : (Jvm.Cond.methodLink "java/util/ArrayList" (73 : Nat) ({ cls := "jdk/internal/util/ArraysSupport", name := "newLength", desc := "(III)I" } : Jvm.MethodName)) ∈ lw_all := lw_g (lw_at lw_m3 75 rfl) rfl
theorem q661 : (Jvm.Cond.methodLink "java/util/ArrayList" (66 : Nat) ({ cls := "java/util/Arrays", name := "copyOf", desc := "([Ljava/lang/Object;I)[Ljava/lang/Object;" } : Jvm.MethodName)) ∈ lw_all := lw_g (lw_at lw_m3 76 rfl) rfl
theorem q688 : (Jvm.Cond.selects "java/util/ArrayList" ({ cls := "java/lang/Object", name := "getClass", desc := "()Ljava/lang/Class;" } : Jvm.MethodName) ({ cls := "java/lang/Object", name := "getClass", desc := "()Ljava/lang/Class;" } : Jvm.MethodName)) ∈ lw_all := lw_g (lw_at lw_m3 103 rfl) rfl
theorem q696 : (Jvm.Cond.methodLink "java/util/ArrayList" (79 : Nat) ({ cls := "java/lang/Math", name := "max", desc := "(II)I" } : Jvm.MethodName)) ∈ lw_all := lw_g (lw_at lw_m3 111 rfl) rfl
theorem q792 : (Jvm.Cond.instanceMethod ({ cls := "java/util/ArrayList", name := "size", desc := "()I" } : Jvm.MethodName)) ∈ lw_all := lw_g (lw_at lw_m3 207 rfl) rfl
theorem q793 : (Jvm.Cond.selects "java/util/ArrayList" ({ cls := "java/util/ArrayList", name := "size", desc := "()I" } : Jvm.MethodName) ({ cls := "java/util/ArrayList", name := "size", desc := "()I" } : Jvm.MethodName)) ∈ lw_all := lw_g (lw_at lw_m3 208 rfl) rfl
theorem q794 : (Jvm.Cond.code ({ cls := "java/util/ArrayList", name := "size", desc := "()I" } : Jvm.MethodName) prog_45_method_8_code (1 : Nat) (Option.some Jvm.ClassFile.FieldType.int)) ∈ lw_all := lw_g (lw_at lw_m3 209 rfl) rfl
theorem q796 : (Jvm.Cond.instanceMethod ({ cls := "java/util/ArrayList", name := "get", desc := "(I)Ljava/lang/Object;" } : Jvm.MethodName)) ∈ lw_all := lw_g (lw_at lw_m3 211 rfl) rfl
theorem q797 : (Jvm.Cond.selects "java/util/ArrayList" ({ cls := "java/util/ArrayList", name := "get", desc := "(I)Ljava/lang/Object;" } : Jvm.MethodName) ({ cls := "java/util/ArrayList", name := "get", desc := "(I)Ljava/lang/Object;" } : Jvm.MethodName)) ∈ lw_all := lw_g (lw_at lw_m3 212 rfl) rfl
theorem q798 : (Jvm.Cond.code ({ cls := "java/util/ArrayList", name := "get", desc := "(I)Ljava/lang/Object;" } : Jvm.MethodName) prog_45_method_20_code (2 : Nat) (Option.some (Jvm.ClassFile.FieldType.object "java/lang/Object"))) ∈ lw_all := lw_g (lw_at lw_m3 213 rfl) rfl
theorem q799 : (Jvm.Cond.methodLink "java/util/ArrayList" (118 : Nat) ({ cls := "java/util/Objects", name := "checkIndex", desc := "(II)I" } : Jvm.MethodName)) ∈ lw_all := lw_g (lw_at lw_m3 214 rfl) rfl
theorem q805 : (Jvm.Cond.methodLink "java/util/ArrayList" (123 : Nat) ({ cls := "java/util/ArrayList", name := "elementData", desc := "(I)Ljava/lang/Object;" } : Jvm.MethodName)) ∈ lw_all := lw_g (lw_at lw_m3 220 rfl) rfl
theorem q806 : (Jvm.Cond.instanceMethod ({ cls := "java/util/ArrayList", name := "elementData", desc := "(I)Ljava/lang/Object;" } : Jvm.MethodName)) ∈ lw_all := lw_g (lw_at lw_m3 221 rfl) rfl
theorem q807 : (Jvm.Cond.selects "java/util/ArrayList" ({ cls := "java/util/ArrayList", name := "elementData", desc := "(I)Ljava/lang/Object;" } : Jvm.MethodName) ({ cls := "java/util/ArrayList", name := "elementData", desc := "(I)Ljava/lang/Object;" } : Jvm.MethodName)) ∈ lw_all := lw_g (lw_at lw_m3 222 rfl) rfl
theorem q808 : (Jvm.Cond.code ({ cls := "java/util/ArrayList", name := "elementData", desc := "(I)Ljava/lang/Object;" } : Jvm.MethodName) prog_45_method_18_code (2 : Nat) (Option.some (Jvm.ClassFile.FieldType.object "java/lang/Object"))) ∈ lw_all := lw_g (lw_at lw_m3 223 rfl) rfl
theorem q1552 : (Jvm.Cond.instanceMethod ({ cls := "java/util/ArrayList", name := "remove", desc := "(I)Ljava/lang/Object;" } : Jvm.MethodName)) ∈ lw_all := lw_g (lw_at lw_m7 7 rfl) rfl
theorem q1553 : (Jvm.Cond.selects "java/util/ArrayList" ({ cls := "java/util/ArrayList", name := "remove", desc := "(I)Ljava/lang/Object;" } : Jvm.MethodName) ({ cls := "java/util/ArrayList", name := "remove", desc := "(I)Ljava/lang/Object;" } : Jvm.MethodName)) ∈ lw_all := lw_g (lw_at lw_m7 8 rfl) rfl
theorem q1554 : (Jvm.Cond.code ({ cls := "java/util/ArrayList", name := "remove", desc := "(I)Ljava/lang/Object;" } : Jvm.MethodName) prog_45_method_29_code (4 : Nat) (Option.some (Jvm.ClassFile.FieldType.object "java/lang/Object"))) ∈ lw_all := lw_g (lw_at lw_m7 9 rfl) rfl
theorem q1555 : (Jvm.Cond.methodLink "java/util/ArrayList" (144 : Nat) ({ cls := "java/util/ArrayList", name := "fastRemove", desc := "([Ljava/lang/Object;I)V" } : Jvm.MethodName)) ∈ lw_all := lw_g (lw_at lw_m7 10 rfl) rfl
theorem q1556 : (Jvm.Cond.privateMethod ({ cls := "java/util/ArrayList", name := "fastRemove", desc := "([Ljava/lang/Object;I)V" } : Jvm.MethodName)) ∈ lw_tbl := lw_at lw_m7 11 rfl
theorem q1557 : (Jvm.Cond.instanceMethod ({ cls := "java/util/ArrayList", name := "fastRemove", desc := "([Ljava/lang/Object;I)V" } : Jvm.MethodName)) ∈ lw_all := lw_g (lw_at lw_m7 12 rfl) rfl
theorem q1558 : (Jvm.Cond.code ({ cls := "java/util/ArrayList", name := "fastRemove", desc := "([Ljava/lang/Object;I)V" } : Jvm.MethodName) prog_45_method_39_code (4 : Nat) (Option.none : Option Jvm.ClassFile.FieldType)) ∈ lw_all := lw_g (lw_at lw_m7 13 rfl) rfl
theorem q1559 : (Jvm.Cond.methodLink "java/util/ArrayList" (112 : Nat) ({ cls := "java/lang/System", name := "arraycopy", desc := "(Ljava/lang/Object;ILjava/lang/Object;II)V" } : Jvm.MethodName)) ∈ lw_all := lw_g (lw_at lw_m7 14 rfl) rfl
theorem q2351 : (Jvm.Cond.castable "java/util/ArrayList" "java/lang/Object") ∈ lw_tbl := lw_at lw_m10 86 rfl
theorem in_J2 : ∀ w ∈ wsJ20, w ∈ lw_all := lw_in wsJ20 [499, 495, 497] (by decide +kernel) (by decide +kernel)

/-! java/lang/Object -/
set_option maxRecDepth 100000
def RJ20 : String := "java/lang/Object"
abbrev cJ20_init : ByteArray := object_method_1_code
def yJ20_init : MethodName := ⟨RJ20, "<init>", "()V"⟩
theorem dJ20_init_0 : decode cJ20_init 0 = .ok (.return_, 1) := by decide +kernel
theorem q153 : (Jvm.Cond.instanceMethod ({ cls := "java/lang/Object", name := "<init>", desc := "()V" } : Jvm.MethodName)) ∈ lw_all := lw_g (lw_at lw_m1 48 rfl) rfl
theorem q154 : (Jvm.Cond.code ({ cls := "java/lang/Object", name := "<init>", desc := "()V" } : Jvm.MethodName) object_method_1_code (1 : Nat) (Option.none : Option Jvm.ClassFile.FieldType)) ∈ lw_all := lw_g (lw_at lw_m1 49 rfl) rfl
theorem q287 : (Jvm.Cond.native ({ cls := "java/lang/Object", name := "clone", desc := "()Ljava/lang/Object;" } : Jvm.MethodName)) ∈ lw_all := lw_g (lw_at lw_m1 182 rfl) rfl
theorem q288 : (Jvm.Cond.instanceMethod ({ cls := "java/lang/Object", name := "clone", desc := "()Ljava/lang/Object;" } : Jvm.MethodName)) ∈ lw_all := lw_g (lw_at lw_m1 183 rfl) rfl
theorem q665 : (Jvm.Cond.instanceMethod ({ cls := "java/lang/Object", name := "getClass", desc := "()Ljava/lang/Class;" } : Jvm.MethodName)) ∈ lw_all := lw_g (lw_at lw_m3 80 rfl) rfl
theorem q666 : (Jvm.Cond.sameMethod "java/lang/Object" "java/lang/Object" "getClass" "()Ljava/lang/Class;") ∈ lw_all := lw_g (lw_at lw_m3 81 rfl) rfl
theorem q690 : (Jvm.Cond.native ({ cls := "java/lang/Object", name := "getClass", desc := "()Ljava/lang/Class;" } : Jvm.MethodName)) ∈ lw_all := lw_g (lw_at lw_m3 105 rfl) rfl
theorem q2344 : (Jvm.Cond.initialized "java/lang/Object") ∈ lw_all := lw_g (lw_at lw_m10 79 rfl) rfl
theorem q2373 : (Jvm.Cond.declares ({ cls := "java/lang/Object", name := "getClass", desc := "()Ljava/lang/Class;" } : Jvm.MethodName)) ∈ lw_tbl := lw_at lw_m10 108 rfl

/-! java/lang/Throwable -/
set_option maxRecDepth 100000
def RJ3 : String := "java/lang/Throwable"
def TJ3 : u_T := fun k => match k with
  | 0 => ("java/lang/Throwable", "cause", "Ljava/lang/Throwable;", false)
  | 1 => ("java/lang/Throwable", "stackTrace", "[Ljava/lang/StackTraceElement;", false)
  | 2 => ("java/lang/Throwable", "suppressedExceptions", "Ljava/util/List;", false)
  | 3 => ("java/lang/Throwable", "detailMessage", "Ljava/lang/String;", false)
  | _ => ("java/lang/Throwable", "backtrace", "Ljava/lang/Object;", false)
def tyJ3 : Nat → FieldType := fun k => match k with
  | 0 => .object "java/lang/Throwable"
  | 1 => .array (.object "java/lang/StackTraceElement")
  | 2 => .object "java/util/List"
  | 3 => .object "java/lang/String"
  | _ => .object "java/lang/Object"
abbrev wsJ30 : List Cond := u_ws RJ3 TJ3 5
theorem nmJ3 : ∀ a, a < 5 → ∀ b, b < 5 → a ≠ b → (TJ3 a).2.1 ≠ (TJ3 b).2.1 := by decide +kernel
theorem tyJ3_ok : ∀ k, k < 5 → parseFieldDescriptor (TJ3 k).2.2.1 = some (tyJ3 k) := by decide +kernel
abbrev cJ3_init : ByteArray := prog_40_method_1_code
def yJ3_init : MethodName := ⟨RJ3, "<init>", "()V"⟩
def dkwJ3_init_1 : List UInt8 := [182, 0, 27, 87, 177]
abbrev dktJ3_init_1 : List UInt8 := dkwJ3_init_1 ++ []
def dkwJ3_init_0 : List UInt8 := [42, 183, 0, 1, 42, 42, 181, 0, 7, 42, 178, 0, 13, 181, 0, 17, 42, 178, 0, 20, 181, 0, 24, 42]
abbrev dktJ3_init_0 : List UInt8 := dkwJ3_init_0 ++ dktJ3_init_1
theorem dksJ3_init_0 : cJ3_init.data.toList.drop 0 = dktJ3_init_0 := by decide +kernel
theorem dksJ3_init_1 : cJ3_init.data.toList.drop 24 = dktJ3_init_1 := dk_seg dksJ3_init_0 24 rfl rfl
theorem dJ3_init_0 : decode cJ3_init 0 = .ok (.aload_n 0, 1) := dk_42 (dk_at dksJ3_init_0 0 rfl rfl)
theorem dJ3_init_1 : decode cJ3_init 1 = .ok (.invokespecial 1, 3) := dk_183 0 1 (dk_at dksJ3_init_0 1 rfl rfl)
theorem dJ3_init_4 : decode cJ3_init 4 = .ok (.aload_n 0, 1) := dk_42 (dk_at dksJ3_init_0 4 rfl rfl)
theorem dJ3_init_5 : decode cJ3_init 5 = .ok (.aload_n 0, 1) := dk_42 (dk_at dksJ3_init_0 5 rfl rfl)
theorem dJ3_init_6 : decode cJ3_init 6 = .ok (.putfield 7, 3) := dk_181 0 7 (dk_at dksJ3_init_0 6 rfl rfl)
theorem dJ3_init_9 : decode cJ3_init 9 = .ok (.aload_n 0, 1) := dk_42 (dk_at dksJ3_init_0 9 rfl rfl)
theorem dJ3_init_10 : decode cJ3_init 10 = .ok (.getstatic 13, 3) := dk_178 0 13 (dk_at dksJ3_init_0 10 rfl rfl)
theorem dJ3_init_13 : decode cJ3_init 13 = .ok (.putfield 17, 3) := dk_181 0 17 (dk_at dksJ3_init_0 13 rfl rfl)
theorem dJ3_init_16 : decode cJ3_init 16 = .ok (.aload_n 0, 1) := dk_42 (dk_at dksJ3_init_0 16 rfl rfl)
theorem dJ3_init_17 : decode cJ3_init 17 = .ok (.getstatic 20, 3) := dk_178 0 20 (dk_at dksJ3_init_0 17 rfl rfl)
theorem dJ3_init_20 : decode cJ3_init 20 = .ok (.putfield 24, 3) := dk_181 0 24 (dk_at dksJ3_init_0 20 rfl rfl)
theorem dJ3_init_23 : decode cJ3_init 23 = .ok (.aload_n 0, 1) := dk_42 (dk_at dksJ3_init_0 23 rfl rfl)
theorem dJ3_init_24 : decode cJ3_init 24 = .ok (.invokevirtual 27, 3) := dk_182 0 27 (dk_at dksJ3_init_1 0 rfl rfl)
theorem dJ3_init_27 : decode cJ3_init 27 = .ok (.pop, 1) := dk_87 (dk_at dksJ3_init_1 3 rfl rfl)
theorem dJ3_init_28 : decode cJ3_init 28 = .ok (.return_, 1) := dk_177 (dk_at dksJ3_init_1 4 rfl rfl)
abbrev cJ3_init_2 : ByteArray := prog_40_method_2_code
def yJ3_init_2 : MethodName := ⟨RJ3, "<init>", "(Ljava/lang/String;)V"⟩
def dkwJ3_init_2_1 : List UInt8 := [182, 0, 27, 87, 42, 43, 181, 0, 31, 177]
abbrev dktJ3_init_2_1 : List UInt8 := dkwJ3_init_2_1 ++ []
def dkwJ3_init_2_0 : List UInt8 := [42, 183, 0, 1, 42, 42, 181, 0, 7, 42, 178, 0, 13, 181, 0, 17, 42, 178, 0, 20, 181, 0, 24, 42]
abbrev dktJ3_init_2_0 : List UInt8 := dkwJ3_init_2_0 ++ dktJ3_init_2_1
theorem dksJ3_init_2_0 : cJ3_init_2.data.toList.drop 0 = dktJ3_init_2_0 := by decide +kernel
theorem dksJ3_init_2_1 : cJ3_init_2.data.toList.drop 24 = dktJ3_init_2_1 := dk_seg dksJ3_init_2_0 24 rfl rfl
theorem dJ3_init_2_0 : decode cJ3_init_2 0 = .ok (.aload_n 0, 1) := dk_42 (dk_at dksJ3_init_2_0 0 rfl rfl)
theorem dJ3_init_2_1 : decode cJ3_init_2 1 = .ok (.invokespecial 1, 3) := dk_183 0 1 (dk_at dksJ3_init_2_0 1 rfl rfl)
theorem dJ3_init_2_4 : decode cJ3_init_2 4 = .ok (.aload_n 0, 1) := dk_42 (dk_at dksJ3_init_2_0 4 rfl rfl)
theorem dJ3_init_2_5 : decode cJ3_init_2 5 = .ok (.aload_n 0, 1) := dk_42 (dk_at dksJ3_init_2_0 5 rfl rfl)
theorem dJ3_init_2_6 : decode cJ3_init_2 6 = .ok (.putfield 7, 3) := dk_181 0 7 (dk_at dksJ3_init_2_0 6 rfl rfl)
theorem dJ3_init_2_9 : decode cJ3_init_2 9 = .ok (.aload_n 0, 1) := dk_42 (dk_at dksJ3_init_2_0 9 rfl rfl)
theorem dJ3_init_2_10 : decode cJ3_init_2 10 = .ok (.getstatic 13, 3) := dk_178 0 13 (dk_at dksJ3_init_2_0 10 rfl rfl)
theorem dJ3_init_2_13 : decode cJ3_init_2 13 = .ok (.putfield 17, 3) := dk_181 0 17 (dk_at dksJ3_init_2_0 13 rfl rfl)
theorem dJ3_init_2_16 : decode cJ3_init_2 16 = .ok (.aload_n 0, 1) := dk_42 (dk_at dksJ3_init_2_0 16 rfl rfl)
theorem dJ3_init_2_17 : decode cJ3_init_2 17 = .ok (.getstatic 20, 3) := dk_178 0 20 (dk_at dksJ3_init_2_0 17 rfl rfl)
theorem dJ3_init_2_20 : decode cJ3_init_2 20 = .ok (.putfield 24, 3) := dk_181 0 24 (dk_at dksJ3_init_2_0 20 rfl rfl)
theorem dJ3_init_2_23 : decode cJ3_init_2 23 = .ok (.aload_n 0, 1) := dk_42 (dk_at dksJ3_init_2_0 23 rfl rfl)
theorem dJ3_init_2_24 : decode cJ3_init_2 24 = .ok (.invokevirtual 27, 3) := dk_182 0 27 (dk_at dksJ3_init_2_1 0 rfl rfl)
theorem dJ3_init_2_27 : decode cJ3_init_2 27 = .ok (.pop, 1) := dk_87 (dk_at dksJ3_init_2_1 3 rfl rfl)
theorem dJ3_init_2_28 : decode cJ3_init_2 28 = .ok (.aload_n 0, 1) := dk_42 (dk_at dksJ3_init_2_1 4 rfl rfl)
theorem dJ3_init_2_29 : decode cJ3_init_2 29 = .ok (.aload_n 1, 1) := dk_43 (dk_at dksJ3_init_2_1 5 rfl rfl)
theorem dJ3_init_2_30 : decode cJ3_init_2 30 = .ok (.putfield 31, 3) := dk_181 0 31 (dk_at dksJ3_init_2_1 6 rfl rfl)
theorem dJ3_init_2_33 : decode cJ3_init_2 33 = .ok (.return_, 1) := dk_177 (dk_at dksJ3_init_2_1 9 rfl rfl)
theorem q111 : (Jvm.Cond.initialized "java/lang/Throwable") ∈ lw_all := lw_g (lw_at lw_m1 6 rfl) rfl
theorem q184 : (Jvm.Cond.declares ({ cls := "java/lang/Throwable", name := "<init>", desc := "()V" } : Jvm.MethodName)) ∈ lw_tbl := lw_at lw_m1 79 rfl
theorem q185 : (Jvm.Cond.declares ({ cls := "java/lang/Throwable", name := "<init>", desc := "(Ljava/lang/String;)V" } : Jvm.MethodName)) ∈ lw_tbl := lw_at lw_m1 80 rfl
theorem q189 : (Jvm.Cond.lays "java/lang/Throwable" "java/lang/Throwable" "cause" "Ljava/lang/Throwable;") ∈ lw_all := lw_g (lw_at lw_m1 84 rfl) rfl
theorem q191 : (Jvm.Cond.lays "java/lang/Throwable" "java/lang/Throwable" "stackTrace" "[Ljava/lang/StackTraceElement;") ∈ lw_all := lw_g (lw_at lw_m1 86 rfl) rfl
theorem q193 : (Jvm.Cond.lays "java/lang/Throwable" "java/lang/Throwable" "suppressedExceptions" "Ljava/util/List;") ∈ lw_all := lw_g (lw_at lw_m1 88 rfl) rfl
theorem q195 : (Jvm.Cond.lays "java/lang/Throwable" "java/lang/Throwable" "detailMessage" "Ljava/lang/String;") ∈ lw_all := lw_g (lw_at lw_m1 90 rfl) rfl
theorem q197 : (Jvm.Cond.lays "java/lang/Throwable" "java/lang/Throwable" "backtrace" "Ljava/lang/Object;") ∈ lw_all := lw_g (lw_at lw_m1 92 rfl) rfl
theorem q198 : (Jvm.Cond.fieldLink "java/lang/Throwable" (198 : Nat) "java/lang/Throwable" "backtrace" "Ljava/lang/Object;") ∈ lw_all := lw_g (lw_at lw_m1 93 rfl) rfl
theorem q199 : (Jvm.Cond.superclass "java/lang/Throwable" "java/lang/Object") ∈ lw_all := lw_g (lw_at lw_m1 94 rfl) rfl
theorem q200 : (Jvm.Cond.instanceMethod ({ cls := "java/lang/Throwable", name := "<init>", desc := "()V" } : Jvm.MethodName)) ∈ lw_all := lw_g (lw_at lw_m1 95 rfl) rfl
theorem q201 : (Jvm.Cond.code ({ cls := "java/lang/Throwable", name := "<init>", desc := "()V" } : Jvm.MethodName) prog_40_method_1_code (1 : Nat) (Option.none : Option Jvm.ClassFile.FieldType)) ∈ lw_all := lw_g (lw_at lw_m1 96 rfl) rfl
theorem q202 : (Jvm.Cond.methodLink "java/lang/Throwable" (1 : Nat) ({ cls := "java/lang/Object", name := "<init>", desc := "()V" } : Jvm.MethodName)) ∈ lw_all := lw_g (lw_at lw_m1 97 rfl) rfl
theorem q203 : (Jvm.Cond.fieldLink "java/lang/Throwable" (13 : Nat) "java/lang/Throwable" "UNASSIGNED_STACK" "[Ljava/lang/StackTraceElement;") ∈ lw_all := lw_g (lw_at lw_m1 98 rfl) rfl
theorem q204 : (Jvm.Cond.laysStatic "java/lang/Throwable" "UNASSIGNED_STACK" "[Ljava/lang/StackTraceElement;") ∈ lw_tbl := lw_at lw_m1 99 rfl
theorem q205 : (Jvm.Cond.fieldLink "java/lang/Throwable" (20 : Nat) "java/lang/Throwable" "SUPPRESSED_SENTINEL" "Ljava/util/List;") ∈ lw_all := lw_g (lw_at lw_m1 100 rfl) rfl
theorem q206 : (Jvm.Cond.laysStatic "java/lang/Throwable" "SUPPRESSED_SENTINEL" "Ljava/util/List;") ∈ lw_tbl := lw_at lw_m1 101 rfl
theorem q207 : (Jvm.Cond.methodLink "java/lang/Throwable" (27 : Nat) ({ cls := "java/lang/Throwable", name := "fillInStackTrace", desc := "()Ljava/lang/Throwable;" } : Jvm.MethodName)) ∈ lw_all := lw_g (lw_at lw_m1 102 rfl) rfl
theorem q208 : (Jvm.Cond.instanceMethod ({ cls := "java/lang/Throwable", name := "fillInStackTrace", desc := "()Ljava/lang/Throwable;" } : Jvm.MethodName)) ∈ lw_all := lw_g (lw_at lw_m1 103 rfl) rfl
theorem q209 : (Jvm.Cond.sameMethod "java/lang/Throwable" "java/lang/Throwable" "fillInStackTrace" "()Ljava/lang/Throwable;") ∈ lw_all := lw_g (lw_at lw_m1 104 rfl) rfl
theorem q212 : (Jvm.Cond.codeSync ({ cls := "java/lang/Throwable", name := "fillInStackTrace", desc := "()Ljava/lang/Throwable;" } : Jvm.MethodName) prog_40_method_18_code (1 : Nat) (Option.some (Jvm.ClassFile.FieldType.object "java/lang/Throwable"))) ∈ lw_all := lw_g (lw_at lw_m1 107 rfl) rfl
theorem q213 : (Jvm.Cond.methodLink "java/lang/Throwable" (202 : Nat) ({ cls := "java/lang/Throwable", name := "fillInStackTrace", desc := "(I)Ljava/lang/Throwable;" } : Jvm.MethodName)) ∈ lw_all := lw_g (lw_at lw_m1 108 rfl) rfl
theorem q214 : (Jvm.Cond.privateMethod ({ cls := "java/lang/Throwable", name := "fillInStackTrace", desc := "(I)Ljava/lang/Throwable;" } : Jvm.MethodName)) ∈ lw_tbl := lw_at lw_m1 109 rfl
theorem q215 : (Jvm.Cond.instanceMethod ({ cls := "java/lang/Throwable", name := "fillInStackTrace", desc := "(I)Ljava/lang/Throwable;" } : Jvm.MethodName)) ∈ lw_all := lw_g (lw_at lw_m1 110 rfl) rfl
theorem q216 : (Jvm.Cond.instantiable "java/lang/Throwable" (6 : Nat)) ∈ lw_all := lw_g (lw_at lw_m1 111 rfl) rfl
theorem q217 : (Jvm.Cond.native ({ cls := "java/lang/Throwable", name := "fillInStackTrace", desc := "(I)Ljava/lang/Throwable;" } : Jvm.MethodName)) ∈ lw_all := lw_g (lw_at lw_m1 112 rfl) rfl
theorem q450 : (Jvm.Cond.instanceMethod ({ cls := "java/lang/Throwable", name := "<init>", desc := "(Ljava/lang/String;)V" } : Jvm.MethodName)) ∈ lw_all := lw_g (lw_at lw_m2 105 rfl) rfl
theorem q451 : (Jvm.Cond.code ({ cls := "java/lang/Throwable", name := "<init>", desc := "(Ljava/lang/String;)V" } : Jvm.MethodName) prog_40_method_2_code (2 : Nat) (Option.none : Option Jvm.ClassFile.FieldType)) ∈ lw_all := lw_g (lw_at lw_m2 106 rfl) rfl
theorem q452 : (Jvm.Cond.fieldLink "java/lang/Throwable" (198 : Nat) "java/lang/Throwable" "backtrace" "Ljava/lang/Object;") ∈ lw_all := lw_g (lw_at lw_m2 107 rfl) rfl
theorem q453 : (Jvm.Cond.fieldLink "java/lang/Throwable" (31 : Nat) "java/lang/Throwable" "detailMessage" "Ljava/lang/String;") ∈ lw_all := lw_g (lw_at lw_m2 108 rfl) rfl
theorem q454 : (Jvm.Cond.fieldLink "java/lang/Throwable" (7 : Nat) "java/lang/Throwable" "cause" "Ljava/lang/Throwable;") ∈ lw_all := lw_g (lw_at lw_m2 109 rfl) rfl
theorem q455 : (Jvm.Cond.fieldLink "java/lang/Throwable" (17 : Nat) "java/lang/Throwable" "stackTrace" "[Ljava/lang/StackTraceElement;") ∈ lw_all := lw_g (lw_at lw_m2 110 rfl) rfl
theorem q456 : (Jvm.Cond.fieldLink "java/lang/Throwable" (24 : Nat) "java/lang/Throwable" "suppressedExceptions" "Ljava/util/List;") ∈ lw_all := lw_g (lw_at lw_m2 111 rfl) rfl
theorem q457 : (Jvm.Cond.soleField "java/lang/Throwable" "backtrace") ∈ lw_all := lw_g (lw_at lw_m2 112 rfl) rfl
theorem q458 : (Jvm.Cond.soleField "java/lang/Throwable" "detailMessage") ∈ lw_all := lw_g (lw_at lw_m2 113 rfl) rfl
theorem q459 : (Jvm.Cond.soleField "java/lang/Throwable" "cause") ∈ lw_all := lw_g (lw_at lw_m2 114 rfl) rfl
theorem q460 : (Jvm.Cond.soleField "java/lang/Throwable" "stackTrace") ∈ lw_all := lw_g (lw_at lw_m2 115 rfl) rfl
theorem q462 : (Jvm.Cond.soleField "java/lang/Throwable" "depth") ∈ lw_all := lw_g (lw_at lw_m2 117 rfl) rfl
theorem q463 : (Jvm.Cond.soleField "java/lang/Throwable" "suppressedExceptions") ∈ lw_all := lw_g (lw_at lw_m2 118 rfl) rfl
theorem q2333 : (Jvm.Cond.sameMethod "java/lang/Throwable" "java/lang/Throwable" "fillInStackTrace" "(I)Ljava/lang/Throwable;") ∈ lw_all := lw_g (lw_at lw_m10 68 rfl) rfl
theorem q2370 : (Jvm.Cond.castable "java/lang/Throwable" "java/lang/Object") ∈ lw_tbl := lw_at lw_m10 105 rfl
theorem in_J3 : ∀ w ∈ wsJ30, w ∈ lw_all := lw_in wsJ30 [189, 191, 193, 195, 197] (by decide +kernel) (by decide +kernel)

/-! java/lang/Exception -/
set_option maxRecDepth 100000
def RJ4 : String := "java/lang/Exception"
abbrev cJ4_init : ByteArray := prog_28_method_2_code
def yJ4_init : MethodName := ⟨RJ4, "<init>", "(Ljava/lang/String;)V"⟩
def dkwJ4_init_0 : List UInt8 := [42, 43, 183, 0, 7, 177]
abbrev dktJ4_init_0 : List UInt8 := dkwJ4_init_0 ++ []
theorem dksJ4_init_0 : cJ4_init.data.toList.drop 0 = dktJ4_init_0 := by decide +kernel
theorem dJ4_init_0 : decode cJ4_init 0 = .ok (.aload_n 0, 1) := dk_42 (dk_at dksJ4_init_0 0 rfl rfl)
theorem dJ4_init_1 : decode cJ4_init 1 = .ok (.aload_n 1, 1) := dk_43 (dk_at dksJ4_init_0 1 rfl rfl)
theorem dJ4_init_2 : decode cJ4_init 2 = .ok (.invokespecial 7, 3) := dk_183 0 7 (dk_at dksJ4_init_0 2 rfl rfl)
theorem dJ4_init_5 : decode cJ4_init 5 = .ok (.return_, 1) := dk_177 (dk_at dksJ4_init_0 5 rfl rfl)
abbrev cJ4_init_2 : ByteArray := prog_28_method_1_code
def yJ4_init_2 : MethodName := ⟨RJ4, "<init>", "()V"⟩
theorem dJ4_init_2_0 : decode cJ4_init_2 0 = .ok (.aload_n 0, 1) := by decide +kernel
theorem dJ4_init_2_1 : decode cJ4_init_2 1 = .ok (.invokespecial 1, 3) := by decide +kernel
theorem dJ4_init_2_4 : decode cJ4_init_2 4 = .ok (.return_, 1) := by decide +kernel
theorem q112 : (Jvm.Cond.initialized "java/lang/Exception") ∈ lw_all := lw_g (lw_at lw_m1 7 rfl) rfl
theorem q182 : (Jvm.Cond.declares ({ cls := "java/lang/Exception", name := "<init>", desc := "()V" } : Jvm.MethodName)) ∈ lw_tbl := lw_at lw_m1 77 rfl
theorem q183 : (Jvm.Cond.declares ({ cls := "java/lang/Exception", name := "<init>", desc := "(Ljava/lang/String;)V" } : Jvm.MethodName)) ∈ lw_tbl := lw_at lw_m1 78 rfl
theorem q447 : (Jvm.Cond.instanceMethod ({ cls := "java/lang/Exception", name := "<init>", desc := "(Ljava/lang/String;)V" } : Jvm.MethodName)) ∈ lw_all := lw_g (lw_at lw_m2 102 rfl) rfl
theorem q448 : (Jvm.Cond.code ({ cls := "java/lang/Exception", name := "<init>", desc := "(Ljava/lang/String;)V" } : Jvm.MethodName) prog_28_method_2_code (2 : Nat) (Option.none : Option Jvm.ClassFile.FieldType)) ∈ lw_all := lw_g (lw_at lw_m2 103 rfl) rfl
theorem q449 : (Jvm.Cond.methodLink "java/lang/Exception" (7 : Nat) ({ cls := "java/lang/Throwable", name := "<init>", desc := "(Ljava/lang/String;)V" } : Jvm.MethodName)) ∈ lw_all := lw_g (lw_at lw_m2 104 rfl) rfl
theorem q905 : (Jvm.Cond.instanceMethod ({ cls := "java/lang/Exception", name := "<init>", desc := "()V" } : Jvm.MethodName)) ∈ lw_all := lw_g (lw_at lw_m4 80 rfl) rfl
theorem q906 : (Jvm.Cond.code ({ cls := "java/lang/Exception", name := "<init>", desc := "()V" } : Jvm.MethodName) prog_28_method_1_code (1 : Nat) (Option.none : Option Jvm.ClassFile.FieldType)) ∈ lw_all := lw_g (lw_at lw_m4 81 rfl) rfl
theorem q907 : (Jvm.Cond.methodLink "java/lang/Exception" (1 : Nat) ({ cls := "java/lang/Throwable", name := "<init>", desc := "()V" } : Jvm.MethodName)) ∈ lw_all := lw_g (lw_at lw_m4 82 rfl) rfl

/-! java/lang/RuntimeException -/
set_option maxRecDepth 100000
def RJ5 : String := "java/lang/RuntimeException"
abbrev cJ5_init : ByteArray := prog_34_method_2_code
def yJ5_init : MethodName := ⟨RJ5, "<init>", "(Ljava/lang/String;)V"⟩
def dkwJ5_init_0 : List UInt8 := [42, 43, 183, 0, 7, 177]
abbrev dktJ5_init_0 : List UInt8 := dkwJ5_init_0 ++ []
theorem dksJ5_init_0 : cJ5_init.data.toList.drop 0 = dktJ5_init_0 := by decide +kernel
theorem dJ5_init_0 : decode cJ5_init 0 = .ok (.aload_n 0, 1) := dk_42 (dk_at dksJ5_init_0 0 rfl rfl)
theorem dJ5_init_1 : decode cJ5_init 1 = .ok (.aload_n 1, 1) := dk_43 (dk_at dksJ5_init_0 1 rfl rfl)
theorem dJ5_init_2 : decode cJ5_init 2 = .ok (.invokespecial 7, 3) := dk_183 0 7 (dk_at dksJ5_init_0 2 rfl rfl)
theorem dJ5_init_5 : decode cJ5_init 5 = .ok (.return_, 1) := dk_177 (dk_at dksJ5_init_0 5 rfl rfl)
abbrev cJ5_init_2 : ByteArray := prog_34_method_1_code
def yJ5_init_2 : MethodName := ⟨RJ5, "<init>", "()V"⟩
theorem dJ5_init_2_0 : decode cJ5_init_2 0 = .ok (.aload_n 0, 1) := by decide +kernel
theorem dJ5_init_2_1 : decode cJ5_init_2 1 = .ok (.invokespecial 1, 3) := by decide +kernel
theorem dJ5_init_2_4 : decode cJ5_init_2 4 = .ok (.return_, 1) := by decide +kernel
theorem q113 : (Jvm.Cond.initialized "java/lang/RuntimeException") ∈ lw_all := lw_g (lw_at lw_m1 8 rfl) rfl
theorem q180 : (Jvm.Cond.declares ({ cls := "java/lang/RuntimeException", name := "<init>", desc := "()V" } : Jvm.MethodName)) ∈ lw_tbl := lw_at lw_m1 75 rfl
theorem q181 : (Jvm.Cond.declares ({ cls := "java/lang/RuntimeException", name := "<init>", desc := "(Ljava/lang/String;)V" } : Jvm.MethodName)) ∈ lw_tbl := lw_at lw_m1 76 rfl
theorem q444 : (Jvm.Cond.instanceMethod ({ cls := "java/lang/RuntimeException", name := "<init>", desc := "(Ljava/lang/String;)V" } : Jvm.MethodName)) ∈ lw_all := lw_g (lw_at lw_m2 99 rfl) rfl
theorem q445 : (Jvm.Cond.code ({ cls := "java/lang/RuntimeException", name := "<init>", desc := "(Ljava/lang/String;)V" } : Jvm.MethodName) prog_34_method_2_code (2 : Nat) (Option.none : Option Jvm.ClassFile.FieldType)) ∈ lw_all := lw_g (lw_at lw_m2 100 rfl) rfl
theorem q446 : (Jvm.Cond.methodLink "java/lang/RuntimeException" (7 : Nat) ({ cls := "java/lang/Exception", name := "<init>", desc := "(Ljava/lang/String;)V" } : Jvm.MethodName)) ∈ lw_all := lw_g (lw_at lw_m2 101 rfl) rfl
theorem q902 : (Jvm.Cond.instanceMethod ({ cls := "java/lang/RuntimeException", name := "<init>", desc := "()V" } : Jvm.MethodName)) ∈ lw_all := lw_g (lw_at lw_m4 77 rfl) rfl
theorem q903 : (Jvm.Cond.code ({ cls := "java/lang/RuntimeException", name := "<init>", desc := "()V" } : Jvm.MethodName) prog_34_method_1_code (1 : Nat) (Option.none : Option Jvm.ClassFile.FieldType)) ∈ lw_all := lw_g (lw_at lw_m4 78 rfl) rfl
theorem q904 : (Jvm.Cond.methodLink "java/lang/RuntimeException" (1 : Nat) ({ cls := "java/lang/Exception", name := "<init>", desc := "()V" } : Jvm.MethodName)) ∈ lw_all := lw_g (lw_at lw_m4 79 rfl) rfl

/-! java/lang/IllegalArgumentException -/
set_option maxRecDepth 100000
def RJ6 : String := "java/lang/IllegalArgumentException"
def TJ6 : u_T := fun k => match k with
  | 0 => ("java/lang/Throwable", "cause", "Ljava/lang/Throwable;", false)
  | 1 => ("java/lang/Throwable", "stackTrace", "[Ljava/lang/StackTraceElement;", false)
  | 2 => ("java/lang/Throwable", "suppressedExceptions", "Ljava/util/List;", false)
  | 3 => ("java/lang/Throwable", "detailMessage", "Ljava/lang/String;", false)
  | 4 => ("java/lang/Throwable", "backtrace", "Ljava/lang/Object;", false)
  | _ => ("java/lang/Throwable", "depth", "I", false)
def tyJ6 : Nat → FieldType := fun k => match k with
  | 0 => .object "java/lang/Throwable"
  | 1 => .array (.object "java/lang/StackTraceElement")
  | 2 => .object "java/util/List"
  | 3 => .object "java/lang/String"
  | 4 => .object "java/lang/Object"
  | _ => .int
abbrev wsJ60 : List Cond := u_ws RJ6 TJ6 6
theorem nmJ6 : ∀ a, a < 6 → ∀ b, b < 6 → a ≠ b → (TJ6 a).2.1 ≠ (TJ6 b).2.1 := by decide +kernel
theorem tyJ6_ok : ∀ k, k < 6 → parseFieldDescriptor (TJ6 k).2.2.1 = some (tyJ6 k) := by decide +kernel
abbrev cJ6_init : ByteArray := prog_29_method_2_code
def yJ6_init : MethodName := ⟨RJ6, "<init>", "(Ljava/lang/String;)V"⟩
def dkwJ6_init_0 : List UInt8 := [42, 43, 183, 0, 7, 177]
abbrev dktJ6_init_0 : List UInt8 := dkwJ6_init_0 ++ []
theorem dksJ6_init_0 : cJ6_init.data.toList.drop 0 = dktJ6_init_0 := by decide +kernel
theorem dJ6_init_0 : decode cJ6_init 0 = .ok (.aload_n 0, 1) := dk_42 (dk_at dksJ6_init_0 0 rfl rfl)
theorem dJ6_init_1 : decode cJ6_init 1 = .ok (.aload_n 1, 1) := dk_43 (dk_at dksJ6_init_0 1 rfl rfl)
theorem dJ6_init_2 : decode cJ6_init 2 = .ok (.invokespecial 7, 3) := dk_183 0 7 (dk_at dksJ6_init_0 2 rfl rfl)
theorem dJ6_init_5 : decode cJ6_init 5 = .ok (.return_, 1) := dk_177 (dk_at dksJ6_init_0 5 rfl rfl)
abbrev cJ6_init_2 : ByteArray := prog_29_method_1_code
def yJ6_init_2 : MethodName := ⟨RJ6, "<init>", "()V"⟩
theorem dJ6_init_2_0 : decode cJ6_init_2 0 = .ok (.aload_n 0, 1) := by decide +kernel
theorem dJ6_init_2_1 : decode cJ6_init_2 1 = .ok (.invokespecial 1, 3) := by decide +kernel
theorem dJ6_init_2_4 : decode cJ6_init_2 4 = .ok (.return_, 1) := by decide +kernel
theorem q114 : (Jvm.Cond.initialized "java/lang/IllegalArgumentException") ∈ lw_all := lw_g (lw_at lw_m1 9 rfl) rfl
theorem q178 : (Jvm.Cond.instantiable "java/lang/IllegalArgumentException" (6 : Nat)) ∈ lw_all := lw_g (lw_at lw_m1 73 rfl) rfl
theorem q179 : (Jvm.Cond.castable "java/lang/IllegalArgumentException" "java/lang/IllegalArgumentException") ∈ lw_tbl := lw_at lw_m1 74 rfl
theorem q186 : (Jvm.Cond.selects "java/lang/IllegalArgumentException" ({ cls := "java/lang/Throwable", name := "fillInStackTrace", desc := "(I)Ljava/lang/Throwable;" } : Jvm.MethodName) ({ cls := "java/lang/Throwable", name := "fillInStackTrace", desc := "(I)Ljava/lang/Throwable;" } : Jvm.MethodName)) ∈ lw_all := lw_g (lw_at lw_m1 81 rfl) rfl
theorem q187 : (Jvm.Cond.selects "java/lang/IllegalArgumentException" ({ cls := "java/lang/Throwable", name := "fillInStackTrace", desc := "()Ljava/lang/Throwable;" } : Jvm.MethodName) ({ cls := "java/lang/Throwable", name := "fillInStackTrace", desc := "()Ljava/lang/Throwable;" } : Jvm.MethodName)) ∈ lw_all := lw_g (lw_at lw_m1 82 rfl) rfl
theorem q188 : (Jvm.Cond.lays "java/lang/IllegalArgumentException" "java/lang/Throwable" "cause" "Ljava/lang/Throwable;") ∈ lw_all := lw_g (lw_at lw_m1 83 rfl) rfl
theorem q190 : (Jvm.Cond.lays "java/lang/IllegalArgumentException" "java/lang/Throwable" "stackTrace" "[Ljava/lang/StackTraceElement;") ∈ lw_all := lw_g (lw_at lw_m1 85 rfl) rfl
theorem q192 : (Jvm.Cond.lays "java/lang/IllegalArgumentException" "java/lang/Throwable" "suppressedExceptions" "Ljava/util/List;") ∈ lw_all := lw_g (lw_at lw_m1 87 rfl) rfl
theorem q194 : (Jvm.Cond.lays "java/lang/IllegalArgumentException" "java/lang/Throwable" "detailMessage" "Ljava/lang/String;") ∈ lw_all := lw_g (lw_at lw_m1 89 rfl) rfl
theorem q196 : (Jvm.Cond.lays "java/lang/IllegalArgumentException" "java/lang/Throwable" "backtrace" "Ljava/lang/Object;") ∈ lw_all := lw_g (lw_at lw_m1 91 rfl) rfl
theorem q441 : (Jvm.Cond.instanceMethod ({ cls := "java/lang/IllegalArgumentException", name := "<init>", desc := "(Ljava/lang/String;)V" } : Jvm.MethodName)) ∈ lw_all := lw_g (lw_at lw_m2 96 rfl) rfl
theorem q442 : (Jvm.Cond.code ({ cls := "java/lang/IllegalArgumentException", name := "<init>", desc := "(Ljava/lang/String;)V" } : Jvm.MethodName) prog_29_method_2_code (2 : Nat) (Option.none : Option Jvm.ClassFile.FieldType)) ∈ lw_all := lw_g (lw_at lw_m2 97 rfl) rfl
theorem q443 : (Jvm.Cond.methodLink "java/lang/IllegalArgumentException" (7 : Nat) ({ cls := "java/lang/RuntimeException", name := "<init>", desc := "(Ljava/lang/String;)V" } : Jvm.MethodName)) ∈ lw_all := lw_g (lw_at lw_m2 98 rfl) rfl
theorem q461 : (Jvm.Cond.lays "java/lang/IllegalArgumentException" "java/lang/Throwable" "depth" "I") ∈ lw_all := lw_g (lw_at lw_m2 116 rfl) rfl
theorem q464 : (Jvm.Cond.superclass "java/lang/IllegalArgumentException" "java/lang/RuntimeException") ∈ lw_all := lw_g (lw_at lw_m2 119 rfl) rfl
theorem q685 : (Jvm.Cond.selects "java/lang/IllegalArgumentException" ({ cls := "java/lang/Object", name := "getClass", desc := "()Ljava/lang/Class;" } : Jvm.MethodName) ({ cls := "java/lang/Object", name := "getClass", desc := "()Ljava/lang/Class;" } : Jvm.MethodName)) ∈ lw_all := lw_g (lw_at lw_m3 100 rfl) rfl
theorem q899 : (Jvm.Cond.instanceMethod ({ cls := "java/lang/IllegalArgumentException", name := "<init>", desc := "()V" } : Jvm.MethodName)) ∈ lw_all := lw_g (lw_at lw_m4 74 rfl) rfl
theorem q900 : (Jvm.Cond.code ({ cls := "java/lang/IllegalArgumentException", name := "<init>", desc := "()V" } : Jvm.MethodName) prog_29_method_1_code (1 : Nat) (Option.none : Option Jvm.ClassFile.FieldType)) ∈ lw_all := lw_g (lw_at lw_m4 75 rfl) rfl
theorem q901 : (Jvm.Cond.methodLink "java/lang/IllegalArgumentException" (1 : Nat) ({ cls := "java/lang/RuntimeException", name := "<init>", desc := "()V" } : Jvm.MethodName)) ∈ lw_all := lw_g (lw_at lw_m4 76 rfl) rfl
theorem q2352 : (Jvm.Cond.castable "java/lang/IllegalArgumentException" "java/lang/Object") ∈ lw_tbl := lw_at lw_m10 87 rfl
theorem in_J6 : ∀ w ∈ wsJ60, w ∈ lw_all := lw_in wsJ60 [188, 190, 192, 194, 196, 461] (by decide +kernel) (by decide +kernel)

/-! java/lang/AbstractStringBuilder -/
set_option maxRecDepth 100000
def RJ7 : String := "java/lang/AbstractStringBuilder"
abbrev cJ7_init : ByteArray := prog_22_method_2_code
def yJ7_init : MethodName := ⟨RJ7, "<init>", "(I)V"⟩
def dkwJ7_init_1 : List UInt8 := [167, 0, 16, 42, 27, 184, 0, 26, 181, 0, 15, 42, 4, 181, 0, 22, 177]
abbrev dktJ7_init_1 : List UInt8 := dkwJ7_init_1 ++ []
def dkwJ7_init_0 : List UInt8 := [42, 183, 0, 3, 178, 0, 18, 153, 0, 18, 42, 27, 188, 8, 181, 0, 15, 42, 3, 181, 0, 22]
abbrev dktJ7_init_0 : List UInt8 := dkwJ7_init_0 ++ dktJ7_init_1
theorem dksJ7_init_0 : cJ7_init.data.toList.drop 0 = dktJ7_init_0 := by decide +kernel
theorem dksJ7_init_1 : cJ7_init.data.toList.drop 22 = dktJ7_init_1 := dk_seg dksJ7_init_0 22 rfl rfl
theorem dJ7_init_0 : decode cJ7_init 0 = .ok (.aload_n 0, 1) := dk_42 (dk_at dksJ7_init_0 0 rfl rfl)
theorem dJ7_init_1 : decode cJ7_init 1 = .ok (.invokespecial 3, 3) := dk_183 0 3 (dk_at dksJ7_init_0 1 rfl rfl)
theorem dJ7_init_4 : decode cJ7_init 4 = .ok (.getstatic 18, 3) := dk_178 0 18 (dk_at dksJ7_init_0 4 rfl rfl)
theorem dJ7_init_7 : decode cJ7_init 7 = .ok (.ifCond .eq 18, 3) := dk_153 0 18 (dk_at dksJ7_init_0 7 rfl rfl)
theorem dJ7_init_10 : decode cJ7_init 10 = .ok (.aload_n 0, 1) := dk_42 (dk_at dksJ7_init_0 10 rfl rfl)
theorem dJ7_init_11 : decode cJ7_init 11 = .ok (.iload_n 1, 1) := dk_27 (dk_at dksJ7_init_0 11 rfl rfl)
theorem dJ7_init_12 : decode cJ7_init 12 = .ok (.newarray .byte, 2) := dk_188_8 (dk_at dksJ7_init_0 12 rfl rfl)
theorem dJ7_init_14 : decode cJ7_init 14 = .ok (.putfield 15, 3) := dk_181 0 15 (dk_at dksJ7_init_0 14 rfl rfl)
theorem dJ7_init_17 : decode cJ7_init 17 = .ok (.aload_n 0, 1) := dk_42 (dk_at dksJ7_init_0 17 rfl rfl)
theorem dJ7_init_18 : decode cJ7_init 18 = .ok (.iconst 0, 1) := dk_3 (dk_at dksJ7_init_0 18 rfl rfl)
theorem dJ7_init_19 : decode cJ7_init 19 = .ok (.putfield 22, 3) := dk_181 0 22 (dk_at dksJ7_init_0 19 rfl rfl)
theorem dJ7_init_22 : decode cJ7_init 22 = .ok (.goto 16, 3) := dk_167 0 16 (dk_at dksJ7_init_1 0 rfl rfl)
theorem dJ7_init_25 : decode cJ7_init 25 = .ok (.aload_n 0, 1) := dk_42 (dk_at dksJ7_init_1 3 rfl rfl)
theorem dJ7_init_26 : decode cJ7_init 26 = .ok (.iload_n 1, 1) := dk_27 (dk_at dksJ7_init_1 4 rfl rfl)
theorem dJ7_init_27 : decode cJ7_init 27 = .ok (.invokestatic 26, 3) := dk_184 0 26 (dk_at dksJ7_init_1 5 rfl rfl)
theorem dJ7_init_30 : decode cJ7_init 30 = .ok (.putfield 15, 3) := dk_181 0 15 (dk_at dksJ7_init_1 8 rfl rfl)
theorem dJ7_init_33 : decode cJ7_init 33 = .ok (.aload_n 0, 1) := dk_42 (dk_at dksJ7_init_1 11 rfl rfl)
theorem dJ7_init_34 : decode cJ7_init 34 = .ok (.iconst 1, 1) := dk_4 (dk_at dksJ7_init_1 12 rfl rfl)
theorem dJ7_init_35 : decode cJ7_init 35 = .ok (.putfield 22, 3) := dk_181 0 22 (dk_at dksJ7_init_1 13 rfl rfl)
theorem dJ7_init_38 : decode cJ7_init 38 = .ok (.return_, 1) := dk_177 (dk_at dksJ7_init_1 16 rfl rfl)
abbrev cJ7_append : ByteArray := prog_22_method_22_code
def yJ7_append : MethodName := ⟨RJ7, "append", "(Ljava/lang/String;)Ljava/lang/AbstractStringBuilder;"⟩
def dkwJ7_append_1 : List UInt8 := [42, 42, 180, 0, 79, 43, 182, 0, 208, 42, 89, 180, 0, 79, 28, 96, 181, 0, 79, 42, 176]
abbrev dktJ7_append_1 : List UInt8 := dkwJ7_append_1 ++ []
def dkwJ7_append_0 : List UInt8 := [43, 199, 0, 8, 42, 182, 0, 204, 176, 43, 182, 0, 32, 61, 42, 42, 180, 0, 79, 28, 96, 182, 0, 100]
abbrev dktJ7_append_0 : List UInt8 := dkwJ7_append_0 ++ dktJ7_append_1
theorem dksJ7_append_0 : cJ7_append.data.toList.drop 0 = dktJ7_append_0 := by decide +kernel
theorem dksJ7_append_1 : cJ7_append.data.toList.drop 24 = dktJ7_append_1 := dk_seg dksJ7_append_0 24 rfl rfl
theorem dJ7_append_0 : decode cJ7_append 0 = .ok (.aload_n 1, 1) := dk_43 (dk_at dksJ7_append_0 0 rfl rfl)
theorem dJ7_append_1 : decode cJ7_append 1 = .ok (.ifnonnull 8, 3) := dk_199 0 8 (dk_at dksJ7_append_0 1 rfl rfl)
theorem dJ7_append_4 : decode cJ7_append 4 = .ok (.aload_n 0, 1) := dk_42 (dk_at dksJ7_append_0 4 rfl rfl)
theorem dJ7_append_5 : decode cJ7_append 5 = .ok (.invokevirtual 204, 3) := dk_182 0 204 (dk_at dksJ7_append_0 5 rfl rfl)
theorem dJ7_append_8 : decode cJ7_append 8 = .ok (.areturn, 1) := dk_176 (dk_at dksJ7_append_0 8 rfl rfl)
theorem dJ7_append_9 : decode cJ7_append 9 = .ok (.aload_n 1, 1) := dk_43 (dk_at dksJ7_append_0 9 rfl rfl)
theorem dJ7_append_10 : decode cJ7_append 10 = .ok (.invokevirtual 32, 3) := dk_182 0 32 (dk_at dksJ7_append_0 10 rfl rfl)
theorem dJ7_append_13 : decode cJ7_append 13 = .ok (.istore_n 2, 1) := dk_61 (dk_at dksJ7_append_0 13 rfl rfl)
theorem dJ7_append_14 : decode cJ7_append 14 = .ok (.aload_n 0, 1) := dk_42 (dk_at dksJ7_append_0 14 rfl rfl)
theorem dJ7_append_15 : decode cJ7_append 15 = .ok (.aload_n 0, 1) := dk_42 (dk_at dksJ7_append_0 15 rfl rfl)
theorem dJ7_append_16 : decode cJ7_append 16 = .ok (.getfield 79, 3) := dk_180 0 79 (dk_at dksJ7_append_0 16 rfl rfl)
theorem dJ7_append_19 : decode cJ7_append 19 = .ok (.iload_n 2, 1) := dk_28 (dk_at dksJ7_append_0 19 rfl rfl)
theorem dJ7_append_20 : decode cJ7_append 20 = .ok (.iadd, 1) := dk_96 (dk_at dksJ7_append_0 20 rfl rfl)
theorem dJ7_append_21 : decode cJ7_append 21 = .ok (.invokevirtual 100, 3) := dk_182 0 100 (dk_at dksJ7_append_0 21 rfl rfl)
theorem dJ7_append_24 : decode cJ7_append 24 = .ok (.aload_n 0, 1) := dk_42 (dk_at dksJ7_append_1 0 rfl rfl)
theorem dJ7_append_25 : decode cJ7_append 25 = .ok (.aload_n 0, 1) := dk_42 (dk_at dksJ7_append_1 1 rfl rfl)
theorem dJ7_append_26 : decode cJ7_append 26 = .ok (.getfield 79, 3) := dk_180 0 79 (dk_at dksJ7_append_1 2 rfl rfl)
theorem dJ7_append_29 : decode cJ7_append 29 = .ok (.aload_n 1, 1) := dk_43 (dk_at dksJ7_append_1 5 rfl rfl)
theorem dJ7_append_30 : decode cJ7_append 30 = .ok (.invokevirtual 208, 3) := dk_182 0 208 (dk_at dksJ7_append_1 6 rfl rfl)
theorem dJ7_append_33 : decode cJ7_append 33 = .ok (.aload_n 0, 1) := dk_42 (dk_at dksJ7_append_1 9 rfl rfl)
theorem dJ7_append_34 : decode cJ7_append 34 = .ok (.dup, 1) := dk_89 (dk_at dksJ7_append_1 10 rfl rfl)
theorem dJ7_append_35 : decode cJ7_append 35 = .ok (.getfield 79, 3) := dk_180 0 79 (dk_at dksJ7_append_1 11 rfl rfl)
theorem dJ7_append_38 : decode cJ7_append 38 = .ok (.iload_n 2, 1) := dk_28 (dk_at dksJ7_append_1 14 rfl rfl)
theorem dJ7_append_39 : decode cJ7_append 39 = .ok (.iadd, 1) := dk_96 (dk_at dksJ7_append_1 15 rfl rfl)
theorem dJ7_append_40 : decode cJ7_append 40 = .ok (.putfield 79, 3) := dk_181 0 79 (dk_at dksJ7_append_1 16 rfl rfl)
theorem dJ7_append_43 : decode cJ7_append 43 = .ok (.aload_n 0, 1) := dk_42 (dk_at dksJ7_append_1 19 rfl rfl)
theorem dJ7_append_44 : decode cJ7_append 44 = .ok (.areturn, 1) := dk_176 (dk_at dksJ7_append_1 20 rfl rfl)
abbrev cJ7_appendNull : ByteArray := prog_22_method_26_code
def yJ7_appendNull : MethodName := ⟨RJ7, "appendNull", "()Ljava/lang/AbstractStringBuilder;"⟩
def dkwJ7_appendNull_3 : List UInt8 := [184, 0, 226, 60, 42, 27, 181, 0, 79, 42, 176]
abbrev dktJ7_appendNull_3 : List UInt8 := dkwJ7_appendNull_3 ++ []
def dkwJ7_appendNull_2 : List UInt8 := [16, 108, 84, 44, 27, 132, 1, 1, 16, 108, 84, 167, 0, 17, 44, 27, 16, 110, 16, 117, 16, 108, 16, 108]
abbrev dktJ7_appendNull_2 : List UInt8 := dkwJ7_appendNull_2 ++ dktJ7_appendNull_3
def dkwJ7_appendNull_1 : List UInt8 := [153, 0, 38, 44, 27, 132, 1, 1, 16, 110, 84, 44, 27, 132, 1, 1, 16, 117, 84, 44, 27, 132, 1, 1]
abbrev dktJ7_appendNull_1 : List UInt8 := dkwJ7_appendNull_1 ++ dktJ7_appendNull_2
def dkwJ7_appendNull_0 : List UInt8 := [42, 42, 180, 0, 79, 7, 96, 182, 0, 100, 42, 180, 0, 79, 60, 42, 180, 0, 15, 77, 42, 182, 0, 83]
abbrev dktJ7_appendNull_0 : List UInt8 := dkwJ7_appendNull_0 ++ dktJ7_appendNull_1
theorem dksJ7_appendNull_0 : cJ7_appendNull.data.toList.drop 0 = dktJ7_appendNull_0 := by decide +kernel
theorem dksJ7_appendNull_1 : cJ7_appendNull.data.toList.drop 24 = dktJ7_appendNull_1 := dk_seg dksJ7_appendNull_0 24 rfl rfl
theorem dksJ7_appendNull_2 : cJ7_appendNull.data.toList.drop 48 = dktJ7_appendNull_2 := dk_seg dksJ7_appendNull_1 24 rfl rfl
theorem dksJ7_appendNull_3 : cJ7_appendNull.data.toList.drop 72 = dktJ7_appendNull_3 := dk_seg dksJ7_appendNull_2 24 rfl rfl
theorem dJ7_appendNull_0 : decode cJ7_appendNull 0 = .ok (.aload_n 0, 1) := dk_42 (dk_at dksJ7_appendNull_0 0 rfl rfl)
theorem dJ7_appendNull_1 : decode cJ7_appendNull 1 = .ok (.aload_n 0, 1) := dk_42 (dk_at dksJ7_appendNull_0 1 rfl rfl)
theorem dJ7_appendNull_2 : decode cJ7_appendNull 2 = .ok (.getfield 79, 3) := dk_180 0 79 (dk_at dksJ7_appendNull_0 2 rfl rfl)
theorem dJ7_appendNull_5 : decode cJ7_appendNull 5 = .ok (.iconst 4, 1) := dk_7 (dk_at dksJ7_appendNull_0 5 rfl rfl)
theorem dJ7_appendNull_6 : decode cJ7_appendNull 6 = .ok (.iadd, 1) := dk_96 (dk_at dksJ7_appendNull_0 6 rfl rfl)
theorem dJ7_appendNull_7 : decode cJ7_appendNull 7 = .ok (.invokevirtual 100, 3) := dk_182 0 100 (dk_at dksJ7_appendNull_0 7 rfl rfl)
theorem dJ7_appendNull_10 : decode cJ7_appendNull 10 = .ok (.aload_n 0, 1) := dk_42 (dk_at dksJ7_appendNull_0 10 rfl rfl)
theorem dJ7_appendNull_11 : decode cJ7_appendNull 11 = .ok (.getfield 79, 3) := dk_180 0 79 (dk_at dksJ7_appendNull_0 11 rfl rfl)
theorem dJ7_appendNull_14 : decode cJ7_appendNull 14 = .ok (.istore_n 1, 1) := dk_60 (dk_at dksJ7_appendNull_0 14 rfl rfl)
theorem dJ7_appendNull_15 : decode cJ7_appendNull 15 = .ok (.aload_n 0, 1) := dk_42 (dk_at dksJ7_appendNull_0 15 rfl rfl)
theorem dJ7_appendNull_16 : decode cJ7_appendNull 16 = .ok (.getfield 15, 3) := dk_180 0 15 (dk_at dksJ7_appendNull_0 16 rfl rfl)
theorem dJ7_appendNull_19 : decode cJ7_appendNull 19 = .ok (.astore_n 2, 1) := dk_77 (dk_at dksJ7_appendNull_0 19 rfl rfl)
theorem dJ7_appendNull_20 : decode cJ7_appendNull 20 = .ok (.aload_n 0, 1) := dk_42 (dk_at dksJ7_appendNull_0 20 rfl rfl)
theorem dJ7_appendNull_21 : decode cJ7_appendNull 21 = .ok (.invokevirtual 83, 3) := dk_182 0 83 (dk_at dksJ7_appendNull_0 21 rfl rfl)
theorem dJ7_appendNull_24 : decode cJ7_appendNull 24 = .ok (.ifCond .eq 38, 3) := dk_153 0 38 (dk_at dksJ7_appendNull_1 0 rfl rfl)
theorem dJ7_appendNull_27 : decode cJ7_appendNull 27 = .ok (.aload_n 2, 1) := dk_44 (dk_at dksJ7_appendNull_1 3 rfl rfl)
theorem dJ7_appendNull_28 : decode cJ7_appendNull 28 = .ok (.iload_n 1, 1) := dk_27 (dk_at dksJ7_appendNull_1 4 rfl rfl)
theorem dJ7_appendNull_29 : decode cJ7_appendNull 29 = .ok (.iinc 1 1, 3) := dk_132 1 1 (dk_at dksJ7_appendNull_1 5 rfl rfl)
theorem dJ7_appendNull_32 : decode cJ7_appendNull 32 = .ok (.bipush 110, 2) := dk_16 110 (dk_at dksJ7_appendNull_1 8 rfl rfl)
theorem dJ7_appendNull_34 : decode cJ7_appendNull 34 = .ok (.bastore, 1) := dk_84 (dk_at dksJ7_appendNull_1 10 rfl rfl)
theorem dJ7_appendNull_35 : decode cJ7_appendNull 35 = .ok (.aload_n 2, 1) := dk_44 (dk_at dksJ7_appendNull_1 11 rfl rfl)
theorem dJ7_appendNull_36 : decode cJ7_appendNull 36 = .ok (.iload_n 1, 1) := dk_27 (dk_at dksJ7_appendNull_1 12 rfl rfl)
theorem dJ7_appendNull_37 : decode cJ7_appendNull 37 = .ok (.iinc 1 1, 3) := dk_132 1 1 (dk_at dksJ7_appendNull_1 13 rfl rfl)
theorem dJ7_appendNull_40 : decode cJ7_appendNull 40 = .ok (.bipush 117, 2) := dk_16 117 (dk_at dksJ7_appendNull_1 16 rfl rfl)
theorem dJ7_appendNull_42 : decode cJ7_appendNull 42 = .ok (.bastore, 1) := dk_84 (dk_at dksJ7_appendNull_1 18 rfl rfl)
theorem dJ7_appendNull_43 : decode cJ7_appendNull 43 = .ok (.aload_n 2, 1) := dk_44 (dk_at dksJ7_appendNull_1 19 rfl rfl)
theorem dJ7_appendNull_44 : decode cJ7_appendNull 44 = .ok (.iload_n 1, 1) := dk_27 (dk_at dksJ7_appendNull_1 20 rfl rfl)
theorem dJ7_appendNull_45 : decode cJ7_appendNull 45 = .ok (.iinc 1 1, 3) := dk_132 1 1 (dk_at dksJ7_appendNull_1 21 rfl rfl)
theorem dJ7_appendNull_48 : decode cJ7_appendNull 48 = .ok (.bipush 108, 2) := dk_16 108 (dk_at dksJ7_appendNull_2 0 rfl rfl)
theorem dJ7_appendNull_50 : decode cJ7_appendNull 50 = .ok (.bastore, 1) := dk_84 (dk_at dksJ7_appendNull_2 2 rfl rfl)
theorem dJ7_appendNull_51 : decode cJ7_appendNull 51 = .ok (.aload_n 2, 1) := dk_44 (dk_at dksJ7_appendNull_2 3 rfl rfl)
theorem dJ7_appendNull_52 : decode cJ7_appendNull 52 = .ok (.iload_n 1, 1) := dk_27 (dk_at dksJ7_appendNull_2 4 rfl rfl)
theorem dJ7_appendNull_53 : decode cJ7_appendNull 53 = .ok (.iinc 1 1, 3) := dk_132 1 1 (dk_at dksJ7_appendNull_2 5 rfl rfl)
theorem dJ7_appendNull_56 : decode cJ7_appendNull 56 = .ok (.bipush 108, 2) := dk_16 108 (dk_at dksJ7_appendNull_2 8 rfl rfl)
theorem dJ7_appendNull_58 : decode cJ7_appendNull 58 = .ok (.bastore, 1) := dk_84 (dk_at dksJ7_appendNull_2 10 rfl rfl)
theorem dJ7_appendNull_59 : decode cJ7_appendNull 59 = .ok (.goto 17, 3) := dk_167 0 17 (dk_at dksJ7_appendNull_2 11 rfl rfl)
theorem dJ7_appendNull_62 : decode cJ7_appendNull 62 = .ok (.aload_n 2, 1) := dk_44 (dk_at dksJ7_appendNull_2 14 rfl rfl)
theorem dJ7_appendNull_63 : decode cJ7_appendNull 63 = .ok (.iload_n 1, 1) := dk_27 (dk_at dksJ7_appendNull_2 15 rfl rfl)
theorem dJ7_appendNull_64 : decode cJ7_appendNull 64 = .ok (.bipush 110, 2) := dk_16 110 (dk_at dksJ7_appendNull_2 16 rfl rfl)
theorem dJ7_appendNull_66 : decode cJ7_appendNull 66 = .ok (.bipush 117, 2) := dk_16 117 (dk_at dksJ7_appendNull_2 18 rfl rfl)
theorem dJ7_appendNull_68 : decode cJ7_appendNull 68 = .ok (.bipush 108, 2) := dk_16 108 (dk_at dksJ7_appendNull_2 20 rfl rfl)
theorem dJ7_appendNull_70 : decode cJ7_appendNull 70 = .ok (.bipush 108, 2) := dk_16 108 (dk_at dksJ7_appendNull_2 22 rfl rfl)
theorem dJ7_appendNull_72 : decode cJ7_appendNull 72 = .ok (.invokestatic 226, 3) := dk_184 0 226 (dk_at dksJ7_appendNull_3 0 rfl rfl)
theorem dJ7_appendNull_75 : decode cJ7_appendNull 75 = .ok (.istore_n 1, 1) := dk_60 (dk_at dksJ7_appendNull_3 3 rfl rfl)
theorem dJ7_appendNull_76 : decode cJ7_appendNull 76 = .ok (.aload_n 0, 1) := dk_42 (dk_at dksJ7_appendNull_3 4 rfl rfl)
theorem dJ7_appendNull_77 : decode cJ7_appendNull 77 = .ok (.iload_n 1, 1) := dk_27 (dk_at dksJ7_appendNull_3 5 rfl rfl)
theorem dJ7_appendNull_78 : decode cJ7_appendNull 78 = .ok (.putfield 79, 3) := dk_181 0 79 (dk_at dksJ7_appendNull_3 6 rfl rfl)
theorem dJ7_appendNull_81 : decode cJ7_appendNull 81 = .ok (.aload_n 0, 1) := dk_42 (dk_at dksJ7_appendNull_3 9 rfl rfl)
theorem dJ7_appendNull_82 : decode cJ7_appendNull 82 = .ok (.areturn, 1) := dk_176 (dk_at dksJ7_appendNull_3 10 rfl rfl)
abbrev cJ7_ensureCapacityInternal : ByteArray := prog_22_method_9_code
def yJ7_ensureCapacityInternal : MethodName := ⟨RJ7, "ensureCapacityInternal", "(I)V"⟩
def dkwJ7_ensureCapacityInternal_1 : List UInt8 := [182, 0, 104, 42, 180, 0, 22, 120, 184, 0, 108, 181, 0, 15, 177]
abbrev dktJ7_ensureCapacityInternal_1 : List UInt8 := dkwJ7_ensureCapacityInternal_1 ++ []
def dkwJ7_ensureCapacityInternal_0 : List UInt8 := [42, 180, 0, 15, 190, 42, 180, 0, 22, 122, 61, 27, 28, 100, 158, 0, 24, 42, 42, 180, 0, 15, 42, 27]
abbrev dktJ7_ensureCapacityInternal_0 : List UInt8 := dkwJ7_ensureCapacityInternal_0 ++ dktJ7_ensureCapacityInternal_1
theorem dksJ7_ensureCapacityInternal_0 : cJ7_ensureCapacityInternal.data.toList.drop 0 = dktJ7_ensureCapacityInternal_0 := by decide +kernel
theorem dksJ7_ensureCapacityInternal_1 : cJ7_ensureCapacityInternal.data.toList.drop 24 = dktJ7_ensureCapacityInternal_1 := dk_seg dksJ7_ensureCapacityInternal_0 24 rfl rfl
theorem dJ7_ensureCapacityInternal_0 : decode cJ7_ensureCapacityInternal 0 = .ok (.aload_n 0, 1) := dk_42 (dk_at dksJ7_ensureCapacityInternal_0 0 rfl rfl)
theorem dJ7_ensureCapacityInternal_1 : decode cJ7_ensureCapacityInternal 1 = .ok (.getfield 15, 3) := dk_180 0 15 (dk_at dksJ7_ensureCapacityInternal_0 1 rfl rfl)
theorem dJ7_ensureCapacityInternal_4 : decode cJ7_ensureCapacityInternal 4 = .ok (.arraylength, 1) := dk_190 (dk_at dksJ7_ensureCapacityInternal_0 4 rfl rfl)
theorem dJ7_ensureCapacityInternal_5 : decode cJ7_ensureCapacityInternal 5 = .ok (.aload_n 0, 1) := dk_42 (dk_at dksJ7_ensureCapacityInternal_0 5 rfl rfl)
theorem dJ7_ensureCapacityInternal_6 : decode cJ7_ensureCapacityInternal 6 = .ok (.getfield 22, 3) := dk_180 0 22 (dk_at dksJ7_ensureCapacityInternal_0 6 rfl rfl)
theorem dJ7_ensureCapacityInternal_9 : decode cJ7_ensureCapacityInternal 9 = .ok (.ishr, 1) := dk_122 (dk_at dksJ7_ensureCapacityInternal_0 9 rfl rfl)
theorem dJ7_ensureCapacityInternal_10 : decode cJ7_ensureCapacityInternal 10 = .ok (.istore_n 2, 1) := dk_61 (dk_at dksJ7_ensureCapacityInternal_0 10 rfl rfl)
theorem dJ7_ensureCapacityInternal_11 : decode cJ7_ensureCapacityInternal 11 = .ok (.iload_n 1, 1) := dk_27 (dk_at dksJ7_ensureCapacityInternal_0 11 rfl rfl)
theorem dJ7_ensureCapacityInternal_12 : decode cJ7_ensureCapacityInternal 12 = .ok (.iload_n 2, 1) := dk_28 (dk_at dksJ7_ensureCapacityInternal_0 12 rfl rfl)
theorem dJ7_ensureCapacityInternal_13 : decode cJ7_ensureCapacityInternal 13 = .ok (.isub, 1) := dk_100 (dk_at dksJ7_ensureCapacityInternal_0 13 rfl rfl)
theorem dJ7_ensureCapacityInternal_14 : decode cJ7_ensureCapacityInternal 14 = .ok (.ifCond .le 24, 3) := dk_158 0 24 (dk_at dksJ7_ensureCapacityInternal_0 14 rfl rfl)
theorem dJ7_ensureCapacityInternal_17 : decode cJ7_ensureCapacityInternal 17 = .ok (.aload_n 0, 1) := dk_42 (dk_at dksJ7_ensureCapacityInternal_0 17 rfl rfl)
theorem dJ7_ensureCapacityInternal_18 : decode cJ7_ensureCapacityInternal 18 = .ok (.aload_n 0, 1) := dk_42 (dk_at dksJ7_ensureCapacityInternal_0 18 rfl rfl)
theorem dJ7_ensureCapacityInternal_19 : decode cJ7_ensureCapacityInternal 19 = .ok (.getfield 15, 3) := dk_180 0 15 (dk_at dksJ7_ensureCapacityInternal_0 19 rfl rfl)
theorem dJ7_ensureCapacityInternal_22 : decode cJ7_ensureCapacityInternal 22 = .ok (.aload_n 0, 1) := dk_42 (dk_at dksJ7_ensureCapacityInternal_0 22 rfl rfl)
theorem dJ7_ensureCapacityInternal_23 : decode cJ7_ensureCapacityInternal 23 = .ok (.iload_n 1, 1) := dk_27 (dk_at dksJ7_ensureCapacityInternal_0 23 rfl rfl)
theorem dJ7_ensureCapacityInternal_24 : decode cJ7_ensureCapacityInternal 24 = .ok (.invokevirtual 104, 3) := dk_182 0 104 (dk_at dksJ7_ensureCapacityInternal_1 0 rfl rfl)
theorem dJ7_ensureCapacityInternal_27 : decode cJ7_ensureCapacityInternal 27 = .ok (.aload_n 0, 1) := dk_42 (dk_at dksJ7_ensureCapacityInternal_1 3 rfl rfl)
theorem dJ7_ensureCapacityInternal_28 : decode cJ7_ensureCapacityInternal 28 = .ok (.getfield 22, 3) := dk_180 0 22 (dk_at dksJ7_ensureCapacityInternal_1 4 rfl rfl)
theorem dJ7_ensureCapacityInternal_31 : decode cJ7_ensureCapacityInternal 31 = .ok (.ishl, 1) := dk_120 (dk_at dksJ7_ensureCapacityInternal_1 7 rfl rfl)
theorem dJ7_ensureCapacityInternal_32 : decode cJ7_ensureCapacityInternal 32 = .ok (.invokestatic 108, 3) := dk_184 0 108 (dk_at dksJ7_ensureCapacityInternal_1 8 rfl rfl)
theorem dJ7_ensureCapacityInternal_35 : decode cJ7_ensureCapacityInternal 35 = .ok (.putfield 15, 3) := dk_181 0 15 (dk_at dksJ7_ensureCapacityInternal_1 11 rfl rfl)
theorem dJ7_ensureCapacityInternal_38 : decode cJ7_ensureCapacityInternal 38 = .ok (.return_, 1) := dk_177 (dk_at dksJ7_ensureCapacityInternal_1 14 rfl rfl)
abbrev cJ7_newCapacity : ByteArray := prog_22_method_10_code
def yJ7_newCapacity : MethodName := ⟨RJ7, "newCapacity", "(I)I"⟩
def dkwJ7_newCapacity_2 : List UInt8 := [183, 0, 124, 191, 21, 5, 42, 180, 0, 22, 122, 172]
abbrev dktJ7_newCapacity_2 : List UInt8 := dkwJ7_newCapacity_2 ++ []
def dkwJ7_newCapacity_1 : List UInt8 := [180, 0, 22, 120, 96, 184, 0, 114, 54, 5, 21, 5, 18, 39, 160, 0, 13, 187, 0, 120, 89, 18, 122]
abbrev dktJ7_newCapacity_1 : List UInt8 := dkwJ7_newCapacity_1 ++ dktJ7_newCapacity_2
def dkwJ7_newCapacity_0 : List UInt8 := [42, 180, 0, 15, 190, 61, 27, 42, 180, 0, 22, 120, 62, 29, 28, 100, 54, 4, 28, 21, 4, 28, 5, 42]
abbrev dktJ7_newCapacity_0 : List UInt8 := dkwJ7_newCapacity_0 ++ dktJ7_newCapacity_1
theorem dksJ7_newCapacity_0 : cJ7_newCapacity.data.toList.drop 0 = dktJ7_newCapacity_0 := by decide +kernel
theorem dksJ7_newCapacity_1 : cJ7_newCapacity.data.toList.drop 24 = dktJ7_newCapacity_1 := dk_seg dksJ7_newCapacity_0 24 rfl rfl
theorem dksJ7_newCapacity_2 : cJ7_newCapacity.data.toList.drop 47 = dktJ7_newCapacity_2 := dk_seg dksJ7_newCapacity_1 23 rfl rfl
theorem dJ7_newCapacity_0 : decode cJ7_newCapacity 0 = .ok (.aload_n 0, 1) := dk_42 (dk_at dksJ7_newCapacity_0 0 rfl rfl)
theorem dJ7_newCapacity_1 : decode cJ7_newCapacity 1 = .ok (.getfield 15, 3) := dk_180 0 15 (dk_at dksJ7_newCapacity_0 1 rfl rfl)
theorem dJ7_newCapacity_4 : decode cJ7_newCapacity 4 = .ok (.arraylength, 1) := dk_190 (dk_at dksJ7_newCapacity_0 4 rfl rfl)
theorem dJ7_newCapacity_5 : decode cJ7_newCapacity 5 = .ok (.istore_n 2, 1) := dk_61 (dk_at dksJ7_newCapacity_0 5 rfl rfl)
theorem dJ7_newCapacity_6 : decode cJ7_newCapacity 6 = .ok (.iload_n 1, 1) := dk_27 (dk_at dksJ7_newCapacity_0 6 rfl rfl)
theorem dJ7_newCapacity_7 : decode cJ7_newCapacity 7 = .ok (.aload_n 0, 1) := dk_42 (dk_at dksJ7_newCapacity_0 7 rfl rfl)
theorem dJ7_newCapacity_8 : decode cJ7_newCapacity 8 = .ok (.getfield 22, 3) := dk_180 0 22 (dk_at dksJ7_newCapacity_0 8 rfl rfl)
theorem dJ7_newCapacity_11 : decode cJ7_newCapacity 11 = .ok (.ishl, 1) := dk_120 (dk_at dksJ7_newCapacity_0 11 rfl rfl)
theorem dJ7_newCapacity_12 : decode cJ7_newCapacity 12 = .ok (.istore_n 3, 1) := dk_62 (dk_at dksJ7_newCapacity_0 12 rfl rfl)
theorem dJ7_newCapacity_13 : decode cJ7_newCapacity 13 = .ok (.iload_n 3, 1) := dk_29 (dk_at dksJ7_newCapacity_0 13 rfl rfl)
theorem dJ7_newCapacity_14 : decode cJ7_newCapacity 14 = .ok (.iload_n 2, 1) := dk_28 (dk_at dksJ7_newCapacity_0 14 rfl rfl)
theorem dJ7_newCapacity_15 : decode cJ7_newCapacity 15 = .ok (.isub, 1) := dk_100 (dk_at dksJ7_newCapacity_0 15 rfl rfl)
theorem dJ7_newCapacity_16 : decode cJ7_newCapacity 16 = .ok (.istore 4, 2) := dk_54 4 (dk_at dksJ7_newCapacity_0 16 rfl rfl)
theorem dJ7_newCapacity_18 : decode cJ7_newCapacity 18 = .ok (.iload_n 2, 1) := dk_28 (dk_at dksJ7_newCapacity_0 18 rfl rfl)
theorem dJ7_newCapacity_19 : decode cJ7_newCapacity 19 = .ok (.iload 4, 2) := dk_21 4 (dk_at dksJ7_newCapacity_0 19 rfl rfl)
theorem dJ7_newCapacity_21 : decode cJ7_newCapacity 21 = .ok (.iload_n 2, 1) := dk_28 (dk_at dksJ7_newCapacity_0 21 rfl rfl)
theorem dJ7_newCapacity_22 : decode cJ7_newCapacity 22 = .ok (.iconst 2, 1) := dk_5 (dk_at dksJ7_newCapacity_0 22 rfl rfl)
theorem dJ7_newCapacity_23 : decode cJ7_newCapacity 23 = .ok (.aload_n 0, 1) := dk_42 (dk_at dksJ7_newCapacity_0 23 rfl rfl)
theorem dJ7_newCapacity_24 : decode cJ7_newCapacity 24 = .ok (.getfield 22, 3) := dk_180 0 22 (dk_at dksJ7_newCapacity_1 0 rfl rfl)
theorem dJ7_newCapacity_27 : decode cJ7_newCapacity 27 = .ok (.ishl, 1) := dk_120 (dk_at dksJ7_newCapacity_1 3 rfl rfl)
theorem dJ7_newCapacity_28 : decode cJ7_newCapacity 28 = .ok (.iadd, 1) := dk_96 (dk_at dksJ7_newCapacity_1 4 rfl rfl)
theorem dJ7_newCapacity_29 : decode cJ7_newCapacity 29 = .ok (.invokestatic 114, 3) := dk_184 0 114 (dk_at dksJ7_newCapacity_1 5 rfl rfl)
theorem dJ7_newCapacity_32 : decode cJ7_newCapacity 32 = .ok (.istore 5, 2) := dk_54 5 (dk_at dksJ7_newCapacity_1 8 rfl rfl)
theorem dJ7_newCapacity_34 : decode cJ7_newCapacity 34 = .ok (.iload 5, 2) := dk_21 5 (dk_at dksJ7_newCapacity_1 10 rfl rfl)
theorem dJ7_newCapacity_36 : decode cJ7_newCapacity 36 = .ok (.ldc 39, 2) := dk_18 39 (dk_at dksJ7_newCapacity_1 12 rfl rfl)
theorem dJ7_newCapacity_38 : decode cJ7_newCapacity 38 = .ok (.if_icmp .ne 13, 3) := dk_160 0 13 (dk_at dksJ7_newCapacity_1 14 rfl rfl)
theorem dJ7_newCapacity_41 : decode cJ7_newCapacity 41 = .ok (.new 120, 3) := dk_187 0 120 (dk_at dksJ7_newCapacity_1 17 rfl rfl)
theorem dJ7_newCapacity_44 : decode cJ7_newCapacity 44 = .ok (.dup, 1) := dk_89 (dk_at dksJ7_newCapacity_1 20 rfl rfl)
theorem dJ7_newCapacity_45 : decode cJ7_newCapacity 45 = .ok (.ldc 122, 2) := dk_18 122 (dk_at dksJ7_newCapacity_1 21 rfl rfl)
theorem dJ7_newCapacity_47 : decode cJ7_newCapacity 47 = .ok (.invokespecial 124, 3) := dk_183 0 124 (dk_at dksJ7_newCapacity_2 0 rfl rfl)
theorem dJ7_newCapacity_50 : decode cJ7_newCapacity 50 = .ok (.athrow, 1) := dk_191 (dk_at dksJ7_newCapacity_2 3 rfl rfl)
theorem dJ7_newCapacity_51 : decode cJ7_newCapacity 51 = .ok (.iload 5, 2) := dk_21 5 (dk_at dksJ7_newCapacity_2 4 rfl rfl)
theorem dJ7_newCapacity_53 : decode cJ7_newCapacity 53 = .ok (.aload_n 0, 1) := dk_42 (dk_at dksJ7_newCapacity_2 6 rfl rfl)
theorem dJ7_newCapacity_54 : decode cJ7_newCapacity 54 = .ok (.getfield 22, 3) := dk_180 0 22 (dk_at dksJ7_newCapacity_2 7 rfl rfl)
theorem dJ7_newCapacity_57 : decode cJ7_newCapacity 57 = .ok (.ishr, 1) := dk_122 (dk_at dksJ7_newCapacity_2 10 rfl rfl)
theorem dJ7_newCapacity_58 : decode cJ7_newCapacity 58 = .ok (.ireturn, 1) := dk_172 (dk_at dksJ7_newCapacity_2 11 rfl rfl)
abbrev cJ7_isLatin1 : ByteArray := prog_22_method_68_code
def yJ7_isLatin1 : MethodName := ⟨RJ7, "isLatin1", "()Z"⟩
def dkwJ7_isLatin1_0 : List UInt8 := [178, 0, 18, 153, 0, 14, 42, 180, 0, 22, 154, 0, 7, 4, 167, 0, 4, 3, 172]
abbrev dktJ7_isLatin1_0 : List UInt8 := dkwJ7_isLatin1_0 ++ []
theorem dksJ7_isLatin1_0 : cJ7_isLatin1.data.toList.drop 0 = dktJ7_isLatin1_0 := by decide +kernel
theorem dJ7_isLatin1_0 : decode cJ7_isLatin1 0 = .ok (.getstatic 18, 3) := dk_178 0 18 (dk_at dksJ7_isLatin1_0 0 rfl rfl)
theorem dJ7_isLatin1_3 : decode cJ7_isLatin1 3 = .ok (.ifCond .eq 14, 3) := dk_153 0 14 (dk_at dksJ7_isLatin1_0 3 rfl rfl)
theorem dJ7_isLatin1_6 : decode cJ7_isLatin1 6 = .ok (.aload_n 0, 1) := dk_42 (dk_at dksJ7_isLatin1_0 6 rfl rfl)
theorem dJ7_isLatin1_7 : decode cJ7_isLatin1 7 = .ok (.getfield 22, 3) := dk_180 0 22 (dk_at dksJ7_isLatin1_0 7 rfl rfl)
theorem dJ7_isLatin1_10 : decode cJ7_isLatin1 10 = .ok (.ifCond .ne 7, 3) := dk_154 0 7 (dk_at dksJ7_isLatin1_0 10 rfl rfl)
theorem dJ7_isLatin1_13 : decode cJ7_isLatin1 13 = .ok (.iconst 1, 1) := dk_4 (dk_at dksJ7_isLatin1_0 13 rfl rfl)
theorem dJ7_isLatin1_14 : decode cJ7_isLatin1 14 = .ok (.goto 4, 3) := dk_167 0 4 (dk_at dksJ7_isLatin1_0 14 rfl rfl)
theorem dJ7_isLatin1_17 : decode cJ7_isLatin1 17 = .ok (.iconst 0, 1) := dk_3 (dk_at dksJ7_isLatin1_0 17 rfl rfl)
theorem dJ7_isLatin1_18 : decode cJ7_isLatin1 18 = .ok (.ireturn, 1) := dk_172 (dk_at dksJ7_isLatin1_0 18 rfl rfl)
abbrev cJ7_putStringAt : ByteArray := prog_22_method_73_code
def yJ7_putStringAt : MethodName := ⟨RJ7, "putStringAt", "(ILjava/lang/String;)V"⟩
def dkwJ7_putStringAt_0 : List UInt8 := [42, 44, 182, 1, 141, 44, 42, 180, 0, 15, 27, 42, 180, 0, 22, 182, 1, 143, 177]
abbrev dktJ7_putStringAt_0 : List UInt8 := dkwJ7_putStringAt_0 ++ []
theorem dksJ7_putStringAt_0 : cJ7_putStringAt.data.toList.drop 0 = dktJ7_putStringAt_0 := by decide +kernel
theorem dJ7_putStringAt_0 : decode cJ7_putStringAt 0 = .ok (.aload_n 0, 1) := dk_42 (dk_at dksJ7_putStringAt_0 0 rfl rfl)
theorem dJ7_putStringAt_1 : decode cJ7_putStringAt 1 = .ok (.aload_n 2, 1) := dk_44 (dk_at dksJ7_putStringAt_0 1 rfl rfl)
theorem dJ7_putStringAt_2 : decode cJ7_putStringAt 2 = .ok (.invokevirtual 397, 3) := dk_182 1 141 (dk_at dksJ7_putStringAt_0 2 rfl rfl)
theorem dJ7_putStringAt_5 : decode cJ7_putStringAt 5 = .ok (.aload_n 2, 1) := dk_44 (dk_at dksJ7_putStringAt_0 5 rfl rfl)
theorem dJ7_putStringAt_6 : decode cJ7_putStringAt 6 = .ok (.aload_n 0, 1) := dk_42 (dk_at dksJ7_putStringAt_0 6 rfl rfl)
theorem dJ7_putStringAt_7 : decode cJ7_putStringAt 7 = .ok (.getfield 15, 3) := dk_180 0 15 (dk_at dksJ7_putStringAt_0 7 rfl rfl)
theorem dJ7_putStringAt_10 : decode cJ7_putStringAt 10 = .ok (.iload_n 1, 1) := dk_27 (dk_at dksJ7_putStringAt_0 10 rfl rfl)
theorem dJ7_putStringAt_11 : decode cJ7_putStringAt 11 = .ok (.aload_n 0, 1) := dk_42 (dk_at dksJ7_putStringAt_0 11 rfl rfl)
theorem dJ7_putStringAt_12 : decode cJ7_putStringAt 12 = .ok (.getfield 22, 3) := dk_180 0 22 (dk_at dksJ7_putStringAt_0 12 rfl rfl)
theorem dJ7_putStringAt_15 : decode cJ7_putStringAt 15 = .ok (.invokevirtual 399, 3) := dk_182 1 143 (dk_at dksJ7_putStringAt_0 15 rfl rfl)
theorem dJ7_putStringAt_18 : decode cJ7_putStringAt 18 = .ok (.return_, 1) := dk_177 (dk_at dksJ7_putStringAt_0 18 rfl rfl)
abbrev cJ7_inflateIfNeededFor : ByteArray := prog_22_method_71_code
def yJ7_inflateIfNeededFor : MethodName := ⟨RJ7, "inflateIfNeededFor", "(Ljava/lang/String;)V"⟩
def dkwJ7_inflateIfNeededFor_0 : List UInt8 := [178, 0, 18, 153, 0, 18, 42, 180, 0, 22, 43, 182, 0, 40, 159, 0, 7, 42, 182, 0, 195, 177]
abbrev dktJ7_inflateIfNeededFor_0 : List UInt8 := dkwJ7_inflateIfNeededFor_0 ++ []
theorem dksJ7_inflateIfNeededFor_0 : cJ7_inflateIfNeededFor.data.toList.drop 0 = dktJ7_inflateIfNeededFor_0 := by decide +kernel
theorem dJ7_inflateIfNeededFor_0 : decode cJ7_inflateIfNeededFor 0 = .ok (.getstatic 18, 3) := dk_178 0 18 (dk_at dksJ7_inflateIfNeededFor_0 0 rfl rfl)
theorem dJ7_inflateIfNeededFor_3 : decode cJ7_inflateIfNeededFor 3 = .ok (.ifCond .eq 18, 3) := dk_153 0 18 (dk_at dksJ7_inflateIfNeededFor_0 3 rfl rfl)
theorem dJ7_inflateIfNeededFor_6 : decode cJ7_inflateIfNeededFor 6 = .ok (.aload_n 0, 1) := dk_42 (dk_at dksJ7_inflateIfNeededFor_0 6 rfl rfl)
theorem dJ7_inflateIfNeededFor_7 : decode cJ7_inflateIfNeededFor 7 = .ok (.getfield 22, 3) := dk_180 0 22 (dk_at dksJ7_inflateIfNeededFor_0 7 rfl rfl)
theorem dJ7_inflateIfNeededFor_10 : decode cJ7_inflateIfNeededFor 10 = .ok (.aload_n 1, 1) := dk_43 (dk_at dksJ7_inflateIfNeededFor_0 10 rfl rfl)
theorem dJ7_inflateIfNeededFor_11 : decode cJ7_inflateIfNeededFor 11 = .ok (.invokevirtual 40, 3) := dk_182 0 40 (dk_at dksJ7_inflateIfNeededFor_0 11 rfl rfl)
theorem dJ7_inflateIfNeededFor_14 : decode cJ7_inflateIfNeededFor 14 = .ok (.if_icmp .eq 7, 3) := dk_159 0 7 (dk_at dksJ7_inflateIfNeededFor_0 14 rfl rfl)
theorem dJ7_inflateIfNeededFor_17 : decode cJ7_inflateIfNeededFor 17 = .ok (.aload_n 0, 1) := dk_42 (dk_at dksJ7_inflateIfNeededFor_0 17 rfl rfl)
theorem dJ7_inflateIfNeededFor_18 : decode cJ7_inflateIfNeededFor 18 = .ok (.invokevirtual 195, 3) := dk_182 0 195 (dk_at dksJ7_inflateIfNeededFor_0 18 rfl rfl)
theorem dJ7_inflateIfNeededFor_21 : decode cJ7_inflateIfNeededFor 21 = .ok (.return_, 1) := dk_177 (dk_at dksJ7_inflateIfNeededFor_0 21 rfl rfl)
abbrev cJ7_inflate : ByteArray := prog_22_method_11_code
def yJ7_inflate : MethodName := ⟨RJ7, "inflate", "()V"⟩
def dkwJ7_inflate_1 : List UInt8 := [42, 180, 0, 79, 184, 0, 125, 42, 43, 181, 0, 15, 42, 4, 181, 0, 22, 177]
abbrev dktJ7_inflate_1 : List UInt8 := dkwJ7_inflate_1 ++ []
def dkwJ7_inflate_0 : List UInt8 := [42, 182, 0, 83, 154, 0, 4, 177, 42, 180, 0, 15, 190, 184, 0, 26, 76, 42, 180, 0, 15, 3, 43, 3]
abbrev dktJ7_inflate_0 : List UInt8 := dkwJ7_inflate_0 ++ dktJ7_inflate_1
theorem dksJ7_inflate_0 : cJ7_inflate.data.toList.drop 0 = dktJ7_inflate_0 := by decide +kernel
theorem dksJ7_inflate_1 : cJ7_inflate.data.toList.drop 24 = dktJ7_inflate_1 := dk_seg dksJ7_inflate_0 24 rfl rfl
theorem dJ7_inflate_0 : decode cJ7_inflate 0 = .ok (.aload_n 0, 1) := dk_42 (dk_at dksJ7_inflate_0 0 rfl rfl)
theorem dJ7_inflate_1 : decode cJ7_inflate 1 = .ok (.invokevirtual 83, 3) := dk_182 0 83 (dk_at dksJ7_inflate_0 1 rfl rfl)
theorem dJ7_inflate_4 : decode cJ7_inflate 4 = .ok (.ifCond .ne 4, 3) := dk_154 0 4 (dk_at dksJ7_inflate_0 4 rfl rfl)
theorem dJ7_inflate_7 : decode cJ7_inflate 7 = .ok (.return_, 1) := dk_177 (dk_at dksJ7_inflate_0 7 rfl rfl)
theorem dJ7_inflate_8 : decode cJ7_inflate 8 = .ok (.aload_n 0, 1) := dk_42 (dk_at dksJ7_inflate_0 8 rfl rfl)
theorem dJ7_inflate_9 : decode cJ7_inflate 9 = .ok (.getfield 15, 3) := dk_180 0 15 (dk_at dksJ7_inflate_0 9 rfl rfl)
theorem dJ7_inflate_12 : decode cJ7_inflate 12 = .ok (.arraylength, 1) := dk_190 (dk_at dksJ7_inflate_0 12 rfl rfl)
theorem dJ7_inflate_13 : decode cJ7_inflate 13 = .ok (.invokestatic 26, 3) := dk_184 0 26 (dk_at dksJ7_inflate_0 13 rfl rfl)
theorem dJ7_inflate_16 : decode cJ7_inflate 16 = .ok (.astore_n 1, 1) := dk_76 (dk_at dksJ7_inflate_0 16 rfl rfl)
theorem dJ7_inflate_17 : decode cJ7_inflate 17 = .ok (.aload_n 0, 1) := dk_42 (dk_at dksJ7_inflate_0 17 rfl rfl)
theorem dJ7_inflate_18 : decode cJ7_inflate 18 = .ok (.getfield 15, 3) := dk_180 0 15 (dk_at dksJ7_inflate_0 18 rfl rfl)
theorem dJ7_inflate_21 : decode cJ7_inflate 21 = .ok (.iconst 0, 1) := dk_3 (dk_at dksJ7_inflate_0 21 rfl rfl)
theorem dJ7_inflate_22 : decode cJ7_inflate 22 = .ok (.aload_n 1, 1) := dk_43 (dk_at dksJ7_inflate_0 22 rfl rfl)
theorem dJ7_inflate_23 : decode cJ7_inflate 23 = .ok (.iconst 0, 1) := dk_3 (dk_at dksJ7_inflate_0 23 rfl rfl)
theorem dJ7_inflate_24 : decode cJ7_inflate 24 = .ok (.aload_n 0, 1) := dk_42 (dk_at dksJ7_inflate_1 0 rfl rfl)
theorem dJ7_inflate_25 : decode cJ7_inflate 25 = .ok (.getfield 79, 3) := dk_180 0 79 (dk_at dksJ7_inflate_1 1 rfl rfl)
theorem dJ7_inflate_28 : decode cJ7_inflate 28 = .ok (.invokestatic 125, 3) := dk_184 0 125 (dk_at dksJ7_inflate_1 4 rfl rfl)
theorem dJ7_inflate_31 : decode cJ7_inflate 31 = .ok (.aload_n 0, 1) := dk_42 (dk_at dksJ7_inflate_1 7 rfl rfl)
theorem dJ7_inflate_32 : decode cJ7_inflate 32 = .ok (.aload_n 1, 1) := dk_43 (dk_at dksJ7_inflate_1 8 rfl rfl)
theorem dJ7_inflate_33 : decode cJ7_inflate 33 = .ok (.putfield 15, 3) := dk_181 0 15 (dk_at dksJ7_inflate_1 9 rfl rfl)
theorem dJ7_inflate_36 : decode cJ7_inflate 36 = .ok (.aload_n 0, 1) := dk_42 (dk_at dksJ7_inflate_1 12 rfl rfl)
theorem dJ7_inflate_37 : decode cJ7_inflate 37 = .ok (.iconst 1, 1) := dk_4 (dk_at dksJ7_inflate_1 13 rfl rfl)
theorem dJ7_inflate_38 : decode cJ7_inflate 38 = .ok (.putfield 22, 3) := dk_181 0 22 (dk_at dksJ7_inflate_1 14 rfl rfl)
theorem dJ7_inflate_41 : decode cJ7_inflate 41 = .ok (.return_, 1) := dk_177 (dk_at dksJ7_inflate_1 17 rfl rfl)
abbrev cJ7_append_2 : ByteArray := prog_22_method_32_code
def yJ7_append_2 : MethodName := ⟨RJ7, "append", "(I)Ljava/lang/AbstractStringBuilder;"⟩
def dkwJ7_append_2_2 : List UInt8 := [42, 29, 181, 0, 79, 42, 176]
abbrev dktJ7_append_2_2 : List UInt8 := dkwJ7_append_2_2 ++ []
def dkwJ7_append_2_1 : List UInt8 := [27, 29, 42, 180, 0, 15, 184, 0, 248, 87, 167, 0, 14, 27, 28, 29, 42, 180, 0, 15, 184, 0, 251, 87]
abbrev dktJ7_append_2_1 : List UInt8 := dkwJ7_append_2_1 ++ dktJ7_append_2_2
def dkwJ7_append_2_0 : List UInt8 := [42, 180, 0, 79, 61, 28, 27, 184, 0, 245, 96, 62, 42, 29, 182, 0, 100, 42, 182, 0, 83, 153, 0, 16]
abbrev dktJ7_append_2_0 : List UInt8 := dkwJ7_append_2_0 ++ dktJ7_append_2_1
theorem dksJ7_append_2_0 : cJ7_append_2.data.toList.drop 0 = dktJ7_append_2_0 := by decide +kernel
theorem dksJ7_append_2_1 : cJ7_append_2.data.toList.drop 24 = dktJ7_append_2_1 := dk_seg dksJ7_append_2_0 24 rfl rfl
theorem dksJ7_append_2_2 : cJ7_append_2.data.toList.drop 48 = dktJ7_append_2_2 := dk_seg dksJ7_append_2_1 24 rfl rfl
theorem dJ7_append_2_0 : decode cJ7_append_2 0 = .ok (.aload_n 0, 1) := dk_42 (dk_at dksJ7_append_2_0 0 rfl rfl)
theorem dJ7_append_2_1 : decode cJ7_append_2 1 = .ok (.getfield 79, 3) := dk_180 0 79 (dk_at dksJ7_append_2_0 1 rfl rfl)
theorem dJ7_append_2_4 : decode cJ7_append_2 4 = .ok (.istore_n 2, 1) := dk_61 (dk_at dksJ7_append_2_0 4 rfl rfl)
theorem dJ7_append_2_5 : decode cJ7_append_2 5 = .ok (.iload_n 2, 1) := dk_28 (dk_at dksJ7_append_2_0 5 rfl rfl)
theorem dJ7_append_2_6 : decode cJ7_append_2 6 = .ok (.iload_n 1, 1) := dk_27 (dk_at dksJ7_append_2_0 6 rfl rfl)
theorem dJ7_append_2_7 : decode cJ7_append_2 7 = .ok (.invokestatic 245, 3) := dk_184 0 245 (dk_at dksJ7_append_2_0 7 rfl rfl)
theorem dJ7_append_2_10 : decode cJ7_append_2 10 = .ok (.iadd, 1) := dk_96 (dk_at dksJ7_append_2_0 10 rfl rfl)
theorem dJ7_append_2_11 : decode cJ7_append_2 11 = .ok (.istore_n 3, 1) := dk_62 (dk_at dksJ7_append_2_0 11 rfl rfl)
theorem dJ7_append_2_12 : decode cJ7_append_2 12 = .ok (.aload_n 0, 1) := dk_42 (dk_at dksJ7_append_2_0 12 rfl rfl)
theorem dJ7_append_2_13 : decode cJ7_append_2 13 = .ok (.iload_n 3, 1) := dk_29 (dk_at dksJ7_append_2_0 13 rfl rfl)
theorem dJ7_append_2_14 : decode cJ7_append_2 14 = .ok (.invokevirtual 100, 3) := dk_182 0 100 (dk_at dksJ7_append_2_0 14 rfl rfl)
theorem dJ7_append_2_17 : decode cJ7_append_2 17 = .ok (.aload_n 0, 1) := dk_42 (dk_at dksJ7_append_2_0 17 rfl rfl)
theorem dJ7_append_2_18 : decode cJ7_append_2 18 = .ok (.invokevirtual 83, 3) := dk_182 0 83 (dk_at dksJ7_append_2_0 18 rfl rfl)
theorem dJ7_append_2_21 : decode cJ7_append_2 21 = .ok (.ifCond .eq 16, 3) := dk_153 0 16 (dk_at dksJ7_append_2_0 21 rfl rfl)
theorem dJ7_append_2_24 : decode cJ7_append_2 24 = .ok (.iload_n 1, 1) := dk_27 (dk_at dksJ7_append_2_1 0 rfl rfl)
theorem dJ7_append_2_25 : decode cJ7_append_2 25 = .ok (.iload_n 3, 1) := dk_29 (dk_at dksJ7_append_2_1 1 rfl rfl)
theorem dJ7_append_2_26 : decode cJ7_append_2 26 = .ok (.aload_n 0, 1) := dk_42 (dk_at dksJ7_append_2_1 2 rfl rfl)
theorem dJ7_append_2_27 : decode cJ7_append_2 27 = .ok (.getfield 15, 3) := dk_180 0 15 (dk_at dksJ7_append_2_1 3 rfl rfl)
theorem dJ7_append_2_30 : decode cJ7_append_2 30 = .ok (.invokestatic 248, 3) := dk_184 0 248 (dk_at dksJ7_append_2_1 6 rfl rfl)
theorem dJ7_append_2_33 : decode cJ7_append_2 33 = .ok (.pop, 1) := dk_87 (dk_at dksJ7_append_2_1 9 rfl rfl)
theorem dJ7_append_2_34 : decode cJ7_append_2 34 = .ok (.goto 14, 3) := dk_167 0 14 (dk_at dksJ7_append_2_1 10 rfl rfl)
theorem dJ7_append_2_37 : decode cJ7_append_2 37 = .ok (.iload_n 1, 1) := dk_27 (dk_at dksJ7_append_2_1 13 rfl rfl)
theorem dJ7_append_2_38 : decode cJ7_append_2 38 = .ok (.iload_n 2, 1) := dk_28 (dk_at dksJ7_append_2_1 14 rfl rfl)
theorem dJ7_append_2_39 : decode cJ7_append_2 39 = .ok (.iload_n 3, 1) := dk_29 (dk_at dksJ7_append_2_1 15 rfl rfl)
theorem dJ7_append_2_40 : decode cJ7_append_2 40 = .ok (.aload_n 0, 1) := dk_42 (dk_at dksJ7_append_2_1 16 rfl rfl)
theorem dJ7_append_2_41 : decode cJ7_append_2 41 = .ok (.getfield 15, 3) := dk_180 0 15 (dk_at dksJ7_append_2_1 17 rfl rfl)
theorem dJ7_append_2_44 : decode cJ7_append_2 44 = .ok (.invokestatic 251, 3) := dk_184 0 251 (dk_at dksJ7_append_2_1 20 rfl rfl)
theorem dJ7_append_2_47 : decode cJ7_append_2 47 = .ok (.pop, 1) := dk_87 (dk_at dksJ7_append_2_1 23 rfl rfl)
theorem dJ7_append_2_48 : decode cJ7_append_2 48 = .ok (.aload_n 0, 1) := dk_42 (dk_at dksJ7_append_2_2 0 rfl rfl)
theorem dJ7_append_2_49 : decode cJ7_append_2 49 = .ok (.iload_n 3, 1) := dk_29 (dk_at dksJ7_append_2_2 1 rfl rfl)
theorem dJ7_append_2_50 : decode cJ7_append_2 50 = .ok (.putfield 79, 3) := dk_181 0 79 (dk_at dksJ7_append_2_2 2 rfl rfl)
theorem dJ7_append_2_53 : decode cJ7_append_2 53 = .ok (.aload_n 0, 1) := dk_42 (dk_at dksJ7_append_2_2 5 rfl rfl)
theorem dJ7_append_2_54 : decode cJ7_append_2 54 = .ok (.areturn, 1) := dk_176 (dk_at dksJ7_append_2_2 6 rfl rfl)
abbrev cJ7_getValue : ByteArray := prog_22_method_64_code
def yJ7_getValue : MethodName := ⟨RJ7, "getValue", "()[B"⟩
theorem dJ7_getValue_0 : decode cJ7_getValue 0 = .ok (.aload_n 0, 1) := by decide +kernel
theorem dJ7_getValue_1 : decode cJ7_getValue 1 = .ok (.getfield 15, 3) := by decide +kernel
theorem dJ7_getValue_4 : decode cJ7_getValue 4 = .ok (.areturn, 1) := by decide +kernel
abbrev cJ7_length : ByteArray := prog_22_method_6_code
def yJ7_length : MethodName := ⟨RJ7, "length", "()I"⟩
theorem dJ7_length_0 : decode cJ7_length 0 = .ok (.aload_n 0, 1) := by decide +kernel
theorem dJ7_length_1 : decode cJ7_length 1 = .ok (.getfield 79, 3) := by decide +kernel
theorem dJ7_length_4 : decode cJ7_length 4 = .ok (.ireturn, 1) := by decide +kernel
abbrev cJ7_append_3 : ByteArray := prog_22_method_31_code
def yJ7_append_3 : MethodName := ⟨RJ7, "append", "(C)Ljava/lang/AbstractStringBuilder;"⟩
def dkwJ7_append_3_3 : List UInt8 := [181, 0, 79, 27, 184, 0, 197, 42, 176]
abbrev dktJ7_append_3_3 : List UInt8 := dkwJ7_append_3_3 ++ []
def dkwJ7_append_3_2 : List UInt8 := [182, 0, 83, 153, 0, 7, 42, 182, 0, 195, 42, 180, 0, 15, 42, 89, 180, 0, 79, 90, 4, 96]
abbrev dktJ7_append_3_2 : List UInt8 := dkwJ7_append_3_2 ++ dktJ7_append_3_3
def dkwJ7_append_3_1 : List UInt8 := [42, 180, 0, 15, 42, 89, 180, 0, 79, 90, 4, 96, 181, 0, 79, 27, 145, 84, 167, 0, 33, 42]
abbrev dktJ7_append_3_1 : List UInt8 := dkwJ7_append_3_1 ++ dktJ7_append_3_2
def dkwJ7_append_3_0 : List UInt8 := [42, 42, 180, 0, 79, 4, 96, 182, 0, 100, 42, 182, 0, 83, 153, 0, 31, 27, 184, 0, 191, 153, 0, 24]
abbrev dktJ7_append_3_0 : List UInt8 := dkwJ7_append_3_0 ++ dktJ7_append_3_1
theorem dksJ7_append_3_0 : cJ7_append_3.data.toList.drop 0 = dktJ7_append_3_0 := by decide +kernel
theorem dksJ7_append_3_1 : cJ7_append_3.data.toList.drop 24 = dktJ7_append_3_1 := dk_seg dksJ7_append_3_0 24 rfl rfl
theorem dksJ7_append_3_2 : cJ7_append_3.data.toList.drop 46 = dktJ7_append_3_2 := dk_seg dksJ7_append_3_1 22 rfl rfl
theorem dksJ7_append_3_3 : cJ7_append_3.data.toList.drop 68 = dktJ7_append_3_3 := dk_seg dksJ7_append_3_2 22 rfl rfl
theorem dJ7_append_3_0 : decode cJ7_append_3 0 = .ok (.aload_n 0, 1) := dk_42 (dk_at dksJ7_append_3_0 0 rfl rfl)
theorem dJ7_append_3_1 : decode cJ7_append_3 1 = .ok (.aload_n 0, 1) := dk_42 (dk_at dksJ7_append_3_0 1 rfl rfl)
theorem dJ7_append_3_2 : decode cJ7_append_3 2 = .ok (.getfield 79, 3) := dk_180 0 79 (dk_at dksJ7_append_3_0 2 rfl rfl)
theorem dJ7_append_3_5 : decode cJ7_append_3 5 = .ok (.iconst 1, 1) := dk_4 (dk_at dksJ7_append_3_0 5 rfl rfl)
theorem dJ7_append_3_6 : decode cJ7_append_3 6 = .ok (.iadd, 1) := dk_96 (dk_at dksJ7_append_3_0 6 rfl rfl)
theorem dJ7_append_3_7 : decode cJ7_append_3 7 = .ok (.invokevirtual 100, 3) := dk_182 0 100 (dk_at dksJ7_append_3_0 7 rfl rfl)
theorem dJ7_append_3_10 : decode cJ7_append_3 10 = .ok (.aload_n 0, 1) := dk_42 (dk_at dksJ7_append_3_0 10 rfl rfl)
theorem dJ7_append_3_11 : decode cJ7_append_3 11 = .ok (.invokevirtual 83, 3) := dk_182 0 83 (dk_at dksJ7_append_3_0 11 rfl rfl)
theorem dJ7_append_3_14 : decode cJ7_append_3 14 = .ok (.ifCond .eq 31, 3) := dk_153 0 31 (dk_at dksJ7_append_3_0 14 rfl rfl)
theorem dJ7_append_3_17 : decode cJ7_append_3 17 = .ok (.iload_n 1, 1) := dk_27 (dk_at dksJ7_append_3_0 17 rfl rfl)
theorem dJ7_append_3_18 : decode cJ7_append_3 18 = .ok (.invokestatic 191, 3) := dk_184 0 191 (dk_at dksJ7_append_3_0 18 rfl rfl)
theorem dJ7_append_3_21 : decode cJ7_append_3 21 = .ok (.ifCond .eq 24, 3) := dk_153 0 24 (dk_at dksJ7_append_3_0 21 rfl rfl)
theorem dJ7_append_3_24 : decode cJ7_append_3 24 = .ok (.aload_n 0, 1) := dk_42 (dk_at dksJ7_append_3_1 0 rfl rfl)
theorem dJ7_append_3_25 : decode cJ7_append_3 25 = .ok (.getfield 15, 3) := dk_180 0 15 (dk_at dksJ7_append_3_1 1 rfl rfl)
theorem dJ7_append_3_28 : decode cJ7_append_3 28 = .ok (.aload_n 0, 1) := dk_42 (dk_at dksJ7_append_3_1 4 rfl rfl)
theorem dJ7_append_3_29 : decode cJ7_append_3 29 = .ok (.dup, 1) := dk_89 (dk_at dksJ7_append_3_1 5 rfl rfl)
theorem dJ7_append_3_30 : decode cJ7_append_3 30 = .ok (.getfield 79, 3) := dk_180 0 79 (dk_at dksJ7_append_3_1 6 rfl rfl)
theorem dJ7_append_3_33 : decode cJ7_append_3 33 = .ok (.dup_x1, 1) := dk_90 (dk_at dksJ7_append_3_1 9 rfl rfl)
theorem dJ7_append_3_34 : decode cJ7_append_3 34 = .ok (.iconst 1, 1) := dk_4 (dk_at dksJ7_append_3_1 10 rfl rfl)
theorem dJ7_append_3_35 : decode cJ7_append_3 35 = .ok (.iadd, 1) := dk_96 (dk_at dksJ7_append_3_1 11 rfl rfl)
theorem dJ7_append_3_36 : decode cJ7_append_3 36 = .ok (.putfield 79, 3) := dk_181 0 79 (dk_at dksJ7_append_3_1 12 rfl rfl)
theorem dJ7_append_3_39 : decode cJ7_append_3 39 = .ok (.iload_n 1, 1) := dk_27 (dk_at dksJ7_append_3_1 15 rfl rfl)
theorem dJ7_append_3_40 : decode cJ7_append_3 40 = .ok (.i2b, 1) := dk_145 (dk_at dksJ7_append_3_1 16 rfl rfl)
theorem dJ7_append_3_41 : decode cJ7_append_3 41 = .ok (.bastore, 1) := dk_84 (dk_at dksJ7_append_3_1 17 rfl rfl)
theorem dJ7_append_3_42 : decode cJ7_append_3 42 = .ok (.goto 33, 3) := dk_167 0 33 (dk_at dksJ7_append_3_1 18 rfl rfl)
theorem dJ7_append_3_45 : decode cJ7_append_3 45 = .ok (.aload_n 0, 1) := dk_42 (dk_at dksJ7_append_3_1 21 rfl rfl)
theorem dJ7_append_3_46 : decode cJ7_append_3 46 = .ok (.invokevirtual 83, 3) := dk_182 0 83 (dk_at dksJ7_append_3_2 0 rfl rfl)
theorem dJ7_append_3_49 : decode cJ7_append_3 49 = .ok (.ifCond .eq 7, 3) := dk_153 0 7 (dk_at dksJ7_append_3_2 3 rfl rfl)
theorem dJ7_append_3_52 : decode cJ7_append_3 52 = .ok (.aload_n 0, 1) := dk_42 (dk_at dksJ7_append_3_2 6 rfl rfl)
theorem dJ7_append_3_53 : decode cJ7_append_3 53 = .ok (.invokevirtual 195, 3) := dk_182 0 195 (dk_at dksJ7_append_3_2 7 rfl rfl)
theorem dJ7_append_3_56 : decode cJ7_append_3 56 = .ok (.aload_n 0, 1) := dk_42 (dk_at dksJ7_append_3_2 10 rfl rfl)
theorem dJ7_append_3_57 : decode cJ7_append_3 57 = .ok (.getfield 15, 3) := dk_180 0 15 (dk_at dksJ7_append_3_2 11 rfl rfl)
theorem dJ7_append_3_60 : decode cJ7_append_3 60 = .ok (.aload_n 0, 1) := dk_42 (dk_at dksJ7_append_3_2 14 rfl rfl)
theorem dJ7_append_3_61 : decode cJ7_append_3 61 = .ok (.dup, 1) := dk_89 (dk_at dksJ7_append_3_2 15 rfl rfl)
theorem dJ7_append_3_62 : decode cJ7_append_3 62 = .ok (.getfield 79, 3) := dk_180 0 79 (dk_at dksJ7_append_3_2 16 rfl rfl)
theorem dJ7_append_3_65 : decode cJ7_append_3 65 = .ok (.dup_x1, 1) := dk_90 (dk_at dksJ7_append_3_2 19 rfl rfl)
theorem dJ7_append_3_66 : decode cJ7_append_3 66 = .ok (.iconst 1, 1) := dk_4 (dk_at dksJ7_append_3_2 20 rfl rfl)
theorem dJ7_append_3_67 : decode cJ7_append_3 67 = .ok (.iadd, 1) := dk_96 (dk_at dksJ7_append_3_2 21 rfl rfl)
theorem dJ7_append_3_68 : decode cJ7_append_3 68 = .ok (.putfield 79, 3) := dk_181 0 79 (dk_at dksJ7_append_3_3 0 rfl rfl)
theorem dJ7_append_3_71 : decode cJ7_append_3 71 = .ok (.iload_n 1, 1) := dk_27 (dk_at dksJ7_append_3_3 3 rfl rfl)
theorem dJ7_append_3_72 : decode cJ7_append_3 72 = .ok (.invokestatic 197, 3) := dk_184 0 197 (dk_at dksJ7_append_3_3 4 rfl rfl)
theorem dJ7_append_3_75 : decode cJ7_append_3 75 = .ok (.aload_n 0, 1) := dk_42 (dk_at dksJ7_append_3_3 7 rfl rfl)
theorem dJ7_append_3_76 : decode cJ7_append_3 76 = .ok (.areturn, 1) := dk_176 (dk_at dksJ7_append_3_3 8 rfl rfl)
theorem q115 : (Jvm.Cond.initialized "java/lang/AbstractStringBuilder") ∈ lw_all := lw_g (lw_at lw_m1 10 rfl) rfl
theorem q224 : (Jvm.Cond.instanceMethod ({ cls := "java/lang/AbstractStringBuilder", name := "<init>", desc := "(I)V" } : Jvm.MethodName)) ∈ lw_all := lw_g (lw_at lw_m1 119 rfl) rfl
theorem q225 : (Jvm.Cond.code ({ cls := "java/lang/AbstractStringBuilder", name := "<init>", desc := "(I)V" } : Jvm.MethodName) prog_22_method_2_code (2 : Nat) (Option.none : Option Jvm.ClassFile.FieldType)) ∈ lw_all := lw_g (lw_at lw_m1 120 rfl) rfl
theorem q226 : (Jvm.Cond.methodLink "java/lang/AbstractStringBuilder" (3 : Nat) ({ cls := "java/lang/Object", name := "<init>", desc := "()V" } : Jvm.MethodName)) ∈ lw_all := lw_g (lw_at lw_m1 121 rfl) rfl
theorem q227 : (Jvm.Cond.fieldLink "java/lang/AbstractStringBuilder" (18 : Nat) "java/lang/String" "COMPACT_STRINGS" "Z") ∈ lw_all := lw_g (lw_at lw_m1 122 rfl) rfl
theorem q229 : (Jvm.Cond.methodLink "java/lang/AbstractStringBuilder" (26 : Nat) ({ cls := "java/lang/StringUTF16", name := "newBytesFor", desc := "(I)[B" } : Jvm.MethodName)) ∈ lw_all := lw_g (lw_at lw_m1 124 rfl) rfl
theorem q236 : (Jvm.Cond.fieldLink "java/lang/AbstractStringBuilder" (15 : Nat) "java/lang/AbstractStringBuilder" "value" "[B") ∈ lw_all := lw_g (lw_at lw_m1 131 rfl) rfl
theorem q237 : (Jvm.Cond.fieldLink "java/lang/AbstractStringBuilder" (22 : Nat) "java/lang/AbstractStringBuilder" "coder" "B") ∈ lw_all := lw_g (lw_at lw_m1 132 rfl) rfl
theorem q239 : (Jvm.Cond.fieldLink "java/lang/AbstractStringBuilder" (79 : Nat) "java/lang/AbstractStringBuilder" "count" "I") ∈ lw_all := lw_g (lw_at lw_m1 134 rfl) rfl
theorem q241 : (Jvm.Cond.soleField "java/lang/AbstractStringBuilder" "value") ∈ lw_all := lw_g (lw_at lw_m1 136 rfl) rfl
theorem q243 : (Jvm.Cond.soleField "java/lang/AbstractStringBuilder" "coder") ∈ lw_all := lw_g (lw_at lw_m1 138 rfl) rfl
theorem q245 : (Jvm.Cond.soleField "java/lang/AbstractStringBuilder" "maybeLatin1") ∈ lw_all := lw_g (lw_at lw_m1 140 rfl) rfl
theorem q247 : (Jvm.Cond.soleField "java/lang/AbstractStringBuilder" "count") ∈ lw_all := lw_g (lw_at lw_m1 142 rfl) rfl
theorem q257 : (Jvm.Cond.instanceMethod ({ cls := "java/lang/AbstractStringBuilder", name := "append", desc := "(Ljava/lang/String;)Ljava/lang/AbstractStringBuilder;" } : Jvm.MethodName)) ∈ lw_all := lw_g (lw_at lw_m1 152 rfl) rfl
theorem q258 : (Jvm.Cond.code ({ cls := "java/lang/AbstractStringBuilder", name := "append", desc := "(Ljava/lang/String;)Ljava/lang/AbstractStringBuilder;" } : Jvm.MethodName) prog_22_method_22_code (3 : Nat) (Option.some (Jvm.ClassFile.FieldType.object "java/lang/AbstractStringBuilder"))) ∈ lw_all := lw_g (lw_at lw_m1 153 rfl) rfl
theorem q259 : (Jvm.Cond.methodLink "java/lang/AbstractStringBuilder" (204 : Nat) ({ cls := "java/lang/AbstractStringBuilder", name := "appendNull", desc := "()Ljava/lang/AbstractStringBuilder;" } : Jvm.MethodName)) ∈ lw_all := lw_g (lw_at lw_m1 154 rfl) rfl
theorem q260 : (Jvm.Cond.privateMethod ({ cls := "java/lang/AbstractStringBuilder", name := "appendNull", desc := "()Ljava/lang/AbstractStringBuilder;" } : Jvm.MethodName)) ∈ lw_tbl := lw_at lw_m1 155 rfl
theorem q261 : (Jvm.Cond.instanceMethod ({ cls := "java/lang/AbstractStringBuilder", name := "appendNull", desc := "()Ljava/lang/AbstractStringBuilder;" } : Jvm.MethodName)) ∈ lw_all := lw_g (lw_at lw_m1 156 rfl) rfl
theorem q262 : (Jvm.Cond.code ({ cls := "java/lang/AbstractStringBuilder", name := "appendNull", desc := "()Ljava/lang/AbstractStringBuilder;" } : Jvm.MethodName) prog_22_method_26_code (3 : Nat) (Option.some (Jvm.ClassFile.FieldType.object "java/lang/AbstractStringBuilder"))) ∈ lw_all := lw_g (lw_at lw_m1 157 rfl) rfl
theorem q263 : (Jvm.Cond.methodLink "java/lang/AbstractStringBuilder" (100 : Nat) ({ cls := "java/lang/AbstractStringBuilder", name := "ensureCapacityInternal", desc := "(I)V" } : Jvm.MethodName)) ∈ lw_all := lw_g (lw_at lw_m1 158 rfl) rfl
theorem q264 : (Jvm.Cond.privateMethod ({ cls := "java/lang/AbstractStringBuilder", name := "ensureCapacityInternal", desc := "(I)V" } : Jvm.MethodName)) ∈ lw_tbl := lw_at lw_m1 159 rfl
theorem q265 : (Jvm.Cond.instanceMethod ({ cls := "java/lang/AbstractStringBuilder", name := "ensureCapacityInternal", desc := "(I)V" } : Jvm.MethodName)) ∈ lw_all := lw_g (lw_at lw_m1 160 rfl) rfl
theorem q266 : (Jvm.Cond.code ({ cls := "java/lang/AbstractStringBuilder", name := "ensureCapacityInternal", desc := "(I)V" } : Jvm.MethodName) prog_22_method_9_code (3 : Nat) (Option.none : Option Jvm.ClassFile.FieldType)) ∈ lw_all := lw_g (lw_at lw_m1 161 rfl) rfl
theorem q267 : (Jvm.Cond.methodLink "java/lang/AbstractStringBuilder" (104 : Nat) ({ cls := "java/lang/AbstractStringBuilder", name := "newCapacity", desc := "(I)I" } : Jvm.MethodName)) ∈ lw_all := lw_g (lw_at lw_m1 162 rfl) rfl
theorem q268 : (Jvm.Cond.privateMethod ({ cls := "java/lang/AbstractStringBuilder", name := "newCapacity", desc := "(I)I" } : Jvm.MethodName)) ∈ lw_tbl := lw_at lw_m1 163 rfl
theorem q269 : (Jvm.Cond.instanceMethod ({ cls := "java/lang/AbstractStringBuilder", name := "newCapacity", desc := "(I)I" } : Jvm.MethodName)) ∈ lw_all := lw_g (lw_at lw_m1 164 rfl) rfl
theorem q270 : (Jvm.Cond.code ({ cls := "java/lang/AbstractStringBuilder", name := "newCapacity", desc := "(I)I" } : Jvm.MethodName) prog_22_method_10_code (6 : Nat) (Option.some Jvm.ClassFile.FieldType.int)) ∈ lw_all := lw_g (lw_at lw_m1 165 rfl) rfl
theorem q271 : (Jvm.Cond.methodLink "java/lang/AbstractStringBuilder" (114 : Nat) ({ cls := "jdk/internal/util/ArraysSupport", name := "newLength", desc := "(III)I" } : Jvm.MethodName)) ∈ lw_all := lw_g (lw_at lw_m1 166 rfl) rfl
theorem q281 : (Jvm.Cond.constant "java/lang/AbstractStringBuilder" (39 : Nat) (2147483647 : Int32)) ∈ lw_all := lw_g (lw_at lw_m1 176 rfl) rfl
theorem q282 : (Jvm.Cond.methodLink "java/lang/AbstractStringBuilder" (108 : Nat) ({ cls := "java/util/Arrays", name := "copyOf", desc := "([BI)[B" } : Jvm.MethodName)) ∈ lw_all := lw_g (lw_at lw_m1 177 rfl) rfl
theorem q298 : (Jvm.Cond.methodLink "java/lang/AbstractStringBuilder" (83 : Nat) ({ cls := "java/lang/AbstractStringBuilder", name := "isLatin1", desc := "()Z" } : Jvm.MethodName)) ∈ lw_all := lw_g (lw_at lw_m1 193 rfl) rfl
theorem q299 : (Jvm.Cond.instanceMethod ({ cls := "java/lang/AbstractStringBuilder", name := "isLatin1", desc := "()Z" } : Jvm.MethodName)) ∈ lw_all := lw_g (lw_at lw_m1 194 rfl) rfl
theorem q300 : (Jvm.Cond.sameMethod "java/lang/AbstractStringBuilder" "java/lang/AbstractStringBuilder" "isLatin1" "()Z") ∈ lw_all := lw_g (lw_at lw_m1 195 rfl) rfl
theorem q302 : (Jvm.Cond.code ({ cls := "java/lang/AbstractStringBuilder", name := "isLatin1", desc := "()Z" } : Jvm.MethodName) prog_22_method_68_code (1 : Nat) (Option.some Jvm.ClassFile.FieldType.boolean)) ∈ lw_all := lw_g (lw_at lw_m1 197 rfl) rfl
theorem q303 : (Jvm.Cond.methodLink "java/lang/AbstractStringBuilder" (226 : Nat) ({ cls := "java/lang/StringUTF16", name := "putCharsAt", desc := "([BICCCC)I" } : Jvm.MethodName)) ∈ lw_all := lw_g (lw_at lw_m1 198 rfl) rfl
theorem q329 : (Jvm.Cond.methodLink "java/lang/AbstractStringBuilder" (32 : Nat) ({ cls := "java/lang/String", name := "length", desc := "()I" } : Jvm.MethodName)) ∈ lw_all := lw_g (lw_at lw_m1 224 rfl) rfl
theorem q338 : (Jvm.Cond.methodLink "java/lang/AbstractStringBuilder" (208 : Nat) ({ cls := "java/lang/AbstractStringBuilder", name := "putStringAt", desc := "(ILjava/lang/String;)V" } : Jvm.MethodName)) ∈ lw_all := lw_g (lw_at lw_m1 233 rfl) rfl
theorem q339 : (Jvm.Cond.privateMethod ({ cls := "java/lang/AbstractStringBuilder", name := "putStringAt", desc := "(ILjava/lang/String;)V" } : Jvm.MethodName)) ∈ lw_tbl := lw_at lw_m1 234 rfl
theorem q340 : (Jvm.Cond.instanceMethod ({ cls := "java/lang/AbstractStringBuilder", name := "putStringAt", desc := "(ILjava/lang/String;)V" } : Jvm.MethodName)) ∈ lw_all := lw_g (lw_at lw_m1 235 rfl) rfl
theorem q341 : (Jvm.Cond.code ({ cls := "java/lang/AbstractStringBuilder", name := "putStringAt", desc := "(ILjava/lang/String;)V" } : Jvm.MethodName) prog_22_method_73_code (3 : Nat) (Option.none : Option Jvm.ClassFile.FieldType)) ∈ lw_all := lw_g (lw_at lw_m1 236 rfl) rfl
theorem q342 : (Jvm.Cond.methodLink "java/lang/AbstractStringBuilder" (397 : Nat) ({ cls := "java/lang/AbstractStringBuilder", name := "inflateIfNeededFor", desc := "(Ljava/lang/String;)V" } : Jvm.MethodName)) ∈ lw_all := lw_g (lw_at lw_m1 237 rfl) rfl
theorem q343 : (Jvm.Cond.privateMethod ({ cls := "java/lang/AbstractStringBuilder", name := "inflateIfNeededFor", desc := "(Ljava/lang/String;)V" } : Jvm.MethodName)) ∈ lw_tbl := lw_at lw_m1 238 rfl
theorem q344 : (Jvm.Cond.instanceMethod ({ cls := "java/lang/AbstractStringBuilder", name := "inflateIfNeededFor", desc := "(Ljava/lang/String;)V" } : Jvm.MethodName)) ∈ lw_all := lw_g (lw_at lw_m1 239 rfl) rfl
theorem q345 : (Jvm.Cond.code ({ cls := "java/lang/AbstractStringBuilder", name := "inflateIfNeededFor", desc := "(Ljava/lang/String;)V" } : Jvm.MethodName) prog_22_method_71_code (2 : Nat) (Option.none : Option Jvm.ClassFile.FieldType)) ∈ lw_all := lw_g (lw_at lw_m2 0 rfl) rfl
theorem q346 : (Jvm.Cond.methodLink "java/lang/AbstractStringBuilder" (40 : Nat) ({ cls := "java/lang/String", name := "coder", desc := "()B" } : Jvm.MethodName)) ∈ lw_all := lw_g (lw_at lw_m2 1 rfl) rfl
theorem q347 : (Jvm.Cond.methodLink "java/lang/AbstractStringBuilder" (195 : Nat) ({ cls := "java/lang/AbstractStringBuilder", name := "inflate", desc := "()V" } : Jvm.MethodName)) ∈ lw_all := lw_g (lw_at lw_m2 2 rfl) rfl
theorem q348 : (Jvm.Cond.privateMethod ({ cls := "java/lang/AbstractStringBuilder", name := "inflate", desc := "()V" } : Jvm.MethodName)) ∈ lw_tbl := lw_at lw_m2 3 rfl
theorem q349 : (Jvm.Cond.instanceMethod ({ cls := "java/lang/AbstractStringBuilder", name := "inflate", desc := "()V" } : Jvm.MethodName)) ∈ lw_all := lw_g (lw_at lw_m2 4 rfl) rfl
theorem q350 : (Jvm.Cond.code ({ cls := "java/lang/AbstractStringBuilder", name := "inflate", desc := "()V" } : Jvm.MethodName) prog_22_method_11_code (2 : Nat) (Option.none : Option Jvm.ClassFile.FieldType)) ∈ lw_all := lw_g (lw_at lw_m2 5 rfl) rfl
theorem q351 : (Jvm.Cond.methodLink "java/lang/AbstractStringBuilder" (125 : Nat) ({ cls := "java/lang/StringLatin1", name := "inflate", desc := "([BI[BII)V" } : Jvm.MethodName)) ∈ lw_all := lw_g (lw_at lw_m2 6 rfl) rfl
theorem q366 : (Jvm.Cond.methodLink "java/lang/AbstractStringBuilder" (399 : Nat) ({ cls := "java/lang/String", name := "getBytes", desc := "([BIB)V" } : Jvm.MethodName)) ∈ lw_all := lw_g (lw_at lw_m2 21 rfl) rfl
theorem q377 : (Jvm.Cond.instanceMethod ({ cls := "java/lang/AbstractStringBuilder", name := "append", desc := "(I)Ljava/lang/AbstractStringBuilder;" } : Jvm.MethodName)) ∈ lw_all := lw_g (lw_at lw_m2 32 rfl) rfl
theorem q378 : (Jvm.Cond.code ({ cls := "java/lang/AbstractStringBuilder", name := "append", desc := "(I)Ljava/lang/AbstractStringBuilder;" } : Jvm.MethodName) prog_22_method_32_code (4 : Nat) (Option.some (Jvm.ClassFile.FieldType.object "java/lang/AbstractStringBuilder"))) ∈ lw_all := lw_g (lw_at lw_m2 33 rfl) rfl
theorem q379 : (Jvm.Cond.methodLink "java/lang/AbstractStringBuilder" (245 : Nat) ({ cls := "java/lang/Integer", name := "stringSize", desc := "(I)I" } : Jvm.MethodName)) ∈ lw_all := lw_g (lw_at lw_m2 34 rfl) rfl
theorem q382 : (Jvm.Cond.methodLink "java/lang/AbstractStringBuilder" (248 : Nat) ({ cls := "java/lang/Integer", name := "getChars", desc := "(II[B)I" } : Jvm.MethodName)) ∈ lw_all := lw_g (lw_at lw_m2 37 rfl) rfl
theorem q389 : (Jvm.Cond.methodLink "java/lang/AbstractStringBuilder" (251 : Nat) ({ cls := "java/lang/StringUTF16", name := "getChars", desc := "(III[B)I" } : Jvm.MethodName)) ∈ lw_all := lw_g (lw_at lw_m2 44 rfl) rfl
theorem q411 : (Jvm.Cond.instanceMethod ({ cls := "java/lang/AbstractStringBuilder", name := "getValue", desc := "()[B" } : Jvm.MethodName)) ∈ lw_all := lw_g (lw_at lw_m2 66 rfl) rfl
theorem q412 : (Jvm.Cond.sameMethod "java/lang/AbstractStringBuilder" "java/lang/AbstractStringBuilder" "getValue" "()[B") ∈ lw_all := lw_g (lw_at lw_m2 67 rfl) rfl
theorem q414 : (Jvm.Cond.code ({ cls := "java/lang/AbstractStringBuilder", name := "getValue", desc := "()[B" } : Jvm.MethodName) prog_22_method_64_code (1 : Nat) (Option.some (Jvm.ClassFile.FieldType.array Jvm.ClassFile.FieldType.byte))) ∈ lw_all := lw_g (lw_at lw_m2 69 rfl) rfl
theorem q416 : (Jvm.Cond.instanceMethod ({ cls := "java/lang/AbstractStringBuilder", name := "length", desc := "()I" } : Jvm.MethodName)) ∈ lw_all := lw_g (lw_at lw_m2 71 rfl) rfl
theorem q417 : (Jvm.Cond.sameMethod "java/lang/AbstractStringBuilder" "java/lang/AbstractStringBuilder" "length" "()I") ∈ lw_all := lw_g (lw_at lw_m2 72 rfl) rfl
theorem q422 : (Jvm.Cond.code ({ cls := "java/lang/AbstractStringBuilder", name := "length", desc := "()I" } : Jvm.MethodName) prog_22_method_6_code (1 : Nat) (Option.some Jvm.ClassFile.FieldType.int)) ∈ lw_all := lw_g (lw_at lw_m2 77 rfl) rfl
theorem q938 : (Jvm.Cond.instanceMethod ({ cls := "java/lang/AbstractStringBuilder", name := "append", desc := "(C)Ljava/lang/AbstractStringBuilder;" } : Jvm.MethodName)) ∈ lw_all := lw_g (lw_at lw_m4 113 rfl) rfl
theorem q939 : (Jvm.Cond.code ({ cls := "java/lang/AbstractStringBuilder", name := "append", desc := "(C)Ljava/lang/AbstractStringBuilder;" } : Jvm.MethodName) prog_22_method_31_code (2 : Nat) (Option.some (Jvm.ClassFile.FieldType.object "java/lang/AbstractStringBuilder"))) ∈ lw_all := lw_g (lw_at lw_m4 114 rfl) rfl
theorem q940 : (Jvm.Cond.methodLink "java/lang/AbstractStringBuilder" (191 : Nat) ({ cls := "java/lang/StringLatin1", name := "canEncode", desc := "(C)Z" } : Jvm.MethodName)) ∈ lw_all := lw_g (lw_at lw_m4 115 rfl) rfl
theorem q943 : (Jvm.Cond.methodLink "java/lang/AbstractStringBuilder" (197 : Nat) ({ cls := "java/lang/StringUTF16", name := "putCharSB", desc := "([BII)V" } : Jvm.MethodName)) ∈ lw_all := lw_g (lw_at lw_m4 118 rfl) rfl
theorem q2334 : (Jvm.Cond.sameMethod "java/lang/AbstractStringBuilder" "java/lang/AbstractStringBuilder" "append" "(Ljava/lang/String;)Ljava/lang/AbstractStringBuilder;") ∈ lw_all := lw_g (lw_at lw_m10 69 rfl) rfl
theorem q2335 : (Jvm.Cond.sameMethod "java/lang/AbstractStringBuilder" "java/lang/AbstractStringBuilder" "appendNull" "()Ljava/lang/AbstractStringBuilder;") ∈ lw_all := lw_g (lw_at lw_m10 70 rfl) rfl
theorem q2336 : (Jvm.Cond.sameMethod "java/lang/AbstractStringBuilder" "java/lang/AbstractStringBuilder" "ensureCapacityInternal" "(I)V") ∈ lw_all := lw_g (lw_at lw_m10 71 rfl) rfl
theorem q2337 : (Jvm.Cond.sameMethod "java/lang/AbstractStringBuilder" "java/lang/AbstractStringBuilder" "newCapacity" "(I)I") ∈ lw_all := lw_g (lw_at lw_m10 72 rfl) rfl
theorem q2338 : (Jvm.Cond.sameMethod "java/lang/AbstractStringBuilder" "java/lang/AbstractStringBuilder" "putStringAt" "(ILjava/lang/String;)V") ∈ lw_all := lw_g (lw_at lw_m10 73 rfl) rfl
theorem q2339 : (Jvm.Cond.sameMethod "java/lang/AbstractStringBuilder" "java/lang/AbstractStringBuilder" "inflateIfNeededFor" "(Ljava/lang/String;)V") ∈ lw_all := lw_g (lw_at lw_m10 74 rfl) rfl
theorem q2340 : (Jvm.Cond.sameMethod "java/lang/AbstractStringBuilder" "java/lang/AbstractStringBuilder" "inflate" "()V") ∈ lw_all := lw_g (lw_at lw_m10 75 rfl) rfl
theorem q2341 : (Jvm.Cond.sameMethod "java/lang/AbstractStringBuilder" "java/lang/AbstractStringBuilder" "append" "(I)Ljava/lang/AbstractStringBuilder;") ∈ lw_all := lw_g (lw_at lw_m10 76 rfl) rfl
theorem q2343 : (Jvm.Cond.sameMethod "java/lang/AbstractStringBuilder" "java/lang/AbstractStringBuilder" "append" "(C)Ljava/lang/AbstractStringBuilder;") ∈ lw_all := lw_g (lw_at lw_m10 78 rfl) rfl

/-! java/lang/StringBuilder -/
set_option maxRecDepth 100000
def RJ8 : String := "java/lang/StringBuilder"
def TJ8 : u_T := fun k => match k with
  | 0 => ("java/lang/AbstractStringBuilder", "value", "[B", false)
  | 1 => ("java/lang/AbstractStringBuilder", "coder", "B", false)
  | 2 => ("java/lang/AbstractStringBuilder", "maybeLatin1", "Z", false)
  | _ => ("java/lang/AbstractStringBuilder", "count", "I", false)
def tyJ8 : Nat → FieldType := fun k => match k with
  | 0 => .array .byte
  | 1 => .byte
  | 2 => .boolean
  | _ => .int
abbrev wsJ80 : List Cond := u_ws RJ8 TJ8 4
theorem nmJ8 : ∀ a, a < 4 → ∀ b, b < 4 → a ≠ b → (TJ8 a).2.1 ≠ (TJ8 b).2.1 := by decide +kernel
theorem tyJ8_ok : ∀ k, k < 4 → parseFieldDescriptor (TJ8 k).2.2.1 = some (tyJ8 k) := by decide +kernel
abbrev cJ8_init : ByteArray := prog_36_method_1_code
def yJ8_init : MethodName := ⟨RJ8, "<init>", "()V"⟩
def dkwJ8_init_0 : List UInt8 := [42, 16, 16, 183, 0, 1, 177]
abbrev dktJ8_init_0 : List UInt8 := dkwJ8_init_0 ++ []
theorem dksJ8_init_0 : cJ8_init.data.toList.drop 0 = dktJ8_init_0 := by decide +kernel
theorem dJ8_init_0 : decode cJ8_init 0 = .ok (.aload_n 0, 1) := dk_42 (dk_at dksJ8_init_0 0 rfl rfl)
theorem dJ8_init_1 : decode cJ8_init 1 = .ok (.bipush 16, 2) := dk_16 16 (dk_at dksJ8_init_0 1 rfl rfl)
theorem dJ8_init_3 : decode cJ8_init 3 = .ok (.invokespecial 1, 3) := dk_183 0 1 (dk_at dksJ8_init_0 3 rfl rfl)
theorem dJ8_init_6 : decode cJ8_init 6 = .ok (.return_, 1) := dk_177 (dk_at dksJ8_init_0 6 rfl rfl)
abbrev cJ8_append : ByteArray := prog_36_method_7_code
def yJ8_append : MethodName := ⟨RJ8, "append", "(Ljava/lang/String;)Ljava/lang/StringBuilder;"⟩
def dkwJ8_append_0 : List UInt8 := [42, 43, 183, 0, 29, 87, 42, 176]
abbrev dktJ8_append_0 : List UInt8 := dkwJ8_append_0 ++ []
theorem dksJ8_append_0 : cJ8_append.data.toList.drop 0 = dktJ8_append_0 := by decide +kernel
theorem dJ8_append_0 : decode cJ8_append 0 = .ok (.aload_n 0, 1) := dk_42 (dk_at dksJ8_append_0 0 rfl rfl)
theorem dJ8_append_1 : decode cJ8_append 1 = .ok (.aload_n 1, 1) := dk_43 (dk_at dksJ8_append_0 1 rfl rfl)
theorem dJ8_append_2 : decode cJ8_append 2 = .ok (.invokespecial 29, 3) := dk_183 0 29 (dk_at dksJ8_append_0 2 rfl rfl)
theorem dJ8_append_5 : decode cJ8_append 5 = .ok (.pop, 1) := dk_87 (dk_at dksJ8_append_0 5 rfl rfl)
theorem dJ8_append_6 : decode cJ8_append 6 = .ok (.aload_n 0, 1) := dk_42 (dk_at dksJ8_append_0 6 rfl rfl)
theorem dJ8_append_7 : decode cJ8_append 7 = .ok (.areturn, 1) := dk_176 (dk_at dksJ8_append_0 7 rfl rfl)
abbrev cJ8_append_2 : ByteArray := prog_36_method_15_code
def yJ8_append_2 : MethodName := ⟨RJ8, "append", "(I)Ljava/lang/StringBuilder;"⟩
def dkwJ8_append_2_0 : List UInt8 := [42, 27, 183, 0, 53, 87, 42, 176]
abbrev dktJ8_append_2_0 : List UInt8 := dkwJ8_append_2_0 ++ []
theorem dksJ8_append_2_0 : cJ8_append_2.data.toList.drop 0 = dktJ8_append_2_0 := by decide +kernel
theorem dJ8_append_2_0 : decode cJ8_append_2 0 = .ok (.aload_n 0, 1) := dk_42 (dk_at dksJ8_append_2_0 0 rfl rfl)
theorem dJ8_append_2_1 : decode cJ8_append_2 1 = .ok (.iload_n 1, 1) := dk_27 (dk_at dksJ8_append_2_0 1 rfl rfl)
theorem dJ8_append_2_2 : decode cJ8_append_2 2 = .ok (.invokespecial 53, 3) := dk_183 0 53 (dk_at dksJ8_append_2_0 2 rfl rfl)
theorem dJ8_append_2_5 : decode cJ8_append_2 5 = .ok (.pop, 1) := dk_87 (dk_at dksJ8_append_2_0 5 rfl rfl)
theorem dJ8_append_2_6 : decode cJ8_append_2 6 = .ok (.aload_n 0, 1) := dk_42 (dk_at dksJ8_append_2_0 6 rfl rfl)
theorem dJ8_append_2_7 : decode cJ8_append_2 7 = .ok (.areturn, 1) := dk_176 (dk_at dksJ8_append_2_0 7 rfl rfl)
abbrev cJ8_toString : ByteArray := prog_36_method_42_code
def yJ8_toString : MethodName := ⟨RJ8, "toString", "()Ljava/lang/String;"⟩
def dkwJ8_toString_0 : List UInt8 := [187, 0, 18, 89, 42, 183, 0, 137, 176]
abbrev dktJ8_toString_0 : List UInt8 := dkwJ8_toString_0 ++ []
theorem dksJ8_toString_0 : cJ8_toString.data.toList.drop 0 = dktJ8_toString_0 := by decide +kernel
theorem dJ8_toString_0 : decode cJ8_toString 0 = .ok (.new 18, 3) := dk_187 0 18 (dk_at dksJ8_toString_0 0 rfl rfl)
theorem dJ8_toString_3 : decode cJ8_toString 3 = .ok (.dup, 1) := dk_89 (dk_at dksJ8_toString_0 3 rfl rfl)
theorem dJ8_toString_4 : decode cJ8_toString 4 = .ok (.aload_n 0, 1) := dk_42 (dk_at dksJ8_toString_0 4 rfl rfl)
theorem dJ8_toString_5 : decode cJ8_toString 5 = .ok (.invokespecial 137, 3) := dk_183 0 137 (dk_at dksJ8_toString_0 5 rfl rfl)
theorem dJ8_toString_8 : decode cJ8_toString 8 = .ok (.areturn, 1) := dk_176 (dk_at dksJ8_toString_0 8 rfl rfl)
abbrev cJ8_length : ByteArray := prog_36_method_93_code
def yJ8_length : MethodName := ⟨RJ8, "length", "()I"⟩
theorem dJ8_length_0 : decode cJ8_length 0 = .ok (.aload_n 0, 1) := by decide +kernel
theorem dJ8_length_1 : decode cJ8_length 1 = .ok (.invokespecial 343, 3) := by decide +kernel
theorem dJ8_length_4 : decode cJ8_length 4 = .ok (.ireturn, 1) := by decide +kernel
abbrev cJ8_init_2 : ByteArray := prog_36_method_2_code
def yJ8_init_2 : MethodName := ⟨RJ8, "<init>", "(I)V"⟩
def dkwJ8_init_2_0 : List UInt8 := [42, 27, 183, 0, 1, 177]
abbrev dktJ8_init_2_0 : List UInt8 := dkwJ8_init_2_0 ++ []
theorem dksJ8_init_2_0 : cJ8_init_2.data.toList.drop 0 = dktJ8_init_2_0 := by decide +kernel
theorem dJ8_init_2_0 : decode cJ8_init_2 0 = .ok (.aload_n 0, 1) := dk_42 (dk_at dksJ8_init_2_0 0 rfl rfl)
theorem dJ8_init_2_1 : decode cJ8_init_2 1 = .ok (.iload_n 1, 1) := dk_27 (dk_at dksJ8_init_2_0 1 rfl rfl)
theorem dJ8_init_2_2 : decode cJ8_init_2 2 = .ok (.invokespecial 1, 3) := dk_183 0 1 (dk_at dksJ8_init_2_0 2 rfl rfl)
theorem dJ8_init_2_5 : decode cJ8_init_2 5 = .ok (.return_, 1) := dk_177 (dk_at dksJ8_init_2_0 5 rfl rfl)
abbrev cJ8_append_3 : ByteArray := prog_36_method_14_code
def yJ8_append_3 : MethodName := ⟨RJ8, "append", "(C)Ljava/lang/StringBuilder;"⟩
def dkwJ8_append_3_0 : List UInt8 := [42, 27, 183, 0, 50, 87, 42, 176]
abbrev dktJ8_append_3_0 : List UInt8 := dkwJ8_append_3_0 ++ []
theorem dksJ8_append_3_0 : cJ8_append_3.data.toList.drop 0 = dktJ8_append_3_0 := by decide +kernel
theorem dJ8_append_3_0 : decode cJ8_append_3 0 = .ok (.aload_n 0, 1) := dk_42 (dk_at dksJ8_append_3_0 0 rfl rfl)
theorem dJ8_append_3_1 : decode cJ8_append_3 1 = .ok (.iload_n 1, 1) := dk_27 (dk_at dksJ8_append_3_0 1 rfl rfl)
theorem dJ8_append_3_2 : decode cJ8_append_3 2 = .ok (.invokespecial 50, 3) := dk_183 0 50 (dk_at dksJ8_append_3_0 2 rfl rfl)
theorem dJ8_append_3_5 : decode cJ8_append_3 5 = .ok (.pop, 1) := dk_87 (dk_at dksJ8_append_3_0 5 rfl rfl)
theorem dJ8_append_3_6 : decode cJ8_append_3 6 = .ok (.aload_n 0, 1) := dk_42 (dk_at dksJ8_append_3_0 6 rfl rfl)
theorem dJ8_append_3_7 : decode cJ8_append_3 7 = .ok (.areturn, 1) := dk_176 (dk_at dksJ8_append_3_0 7 rfl rfl)
theorem q116 : (Jvm.Cond.initialized "java/lang/StringBuilder") ∈ lw_all := lw_g (lw_at lw_m1 11 rfl) rfl
theorem q219 : (Jvm.Cond.instantiable "java/lang/StringBuilder" (4 : Nat)) ∈ lw_all := lw_g (lw_at lw_m1 114 rfl) rfl
theorem q221 : (Jvm.Cond.instanceMethod ({ cls := "java/lang/StringBuilder", name := "<init>", desc := "()V" } : Jvm.MethodName)) ∈ lw_all := lw_g (lw_at lw_m1 116 rfl) rfl
theorem q222 : (Jvm.Cond.code ({ cls := "java/lang/StringBuilder", name := "<init>", desc := "()V" } : Jvm.MethodName) prog_36_method_1_code (1 : Nat) (Option.none : Option Jvm.ClassFile.FieldType)) ∈ lw_all := lw_g (lw_at lw_m1 117 rfl) rfl
theorem q223 : (Jvm.Cond.methodLink "java/lang/StringBuilder" (1 : Nat) ({ cls := "java/lang/AbstractStringBuilder", name := "<init>", desc := "(I)V" } : Jvm.MethodName)) ∈ lw_all := lw_g (lw_at lw_m1 118 rfl) rfl
theorem q240 : (Jvm.Cond.lays "java/lang/StringBuilder" "java/lang/AbstractStringBuilder" "value" "[B") ∈ lw_all := lw_g (lw_at lw_m1 135 rfl) rfl
theorem q242 : (Jvm.Cond.lays "java/lang/StringBuilder" "java/lang/AbstractStringBuilder" "coder" "B") ∈ lw_all := lw_g (lw_at lw_m1 137 rfl) rfl
theorem q244 : (Jvm.Cond.lays "java/lang/StringBuilder" "java/lang/AbstractStringBuilder" "maybeLatin1" "Z") ∈ lw_all := lw_g (lw_at lw_m1 139 rfl) rfl
theorem q246 : (Jvm.Cond.lays "java/lang/StringBuilder" "java/lang/AbstractStringBuilder" "count" "I") ∈ lw_all := lw_g (lw_at lw_m1 141 rfl) rfl
theorem q248 : (Jvm.Cond.superclass "java/lang/StringBuilder" "java/lang/AbstractStringBuilder") ∈ lw_all := lw_g (lw_at lw_m1 143 rfl) rfl
theorem q253 : (Jvm.Cond.instanceMethod ({ cls := "java/lang/StringBuilder", name := "append", desc := "(Ljava/lang/String;)Ljava/lang/StringBuilder;" } : Jvm.MethodName)) ∈ lw_all := lw_g (lw_at lw_m1 148 rfl) rfl
theorem q254 : (Jvm.Cond.selects "java/lang/StringBuilder" ({ cls := "java/lang/StringBuilder", name := "append", desc := "(Ljava/lang/String;)Ljava/lang/StringBuilder;" } : Jvm.MethodName) ({ cls := "java/lang/StringBuilder", name := "append", desc := "(Ljava/lang/String;)Ljava/lang/StringBuilder;" } : Jvm.MethodName)) ∈ lw_all := lw_g (lw_at lw_m1 149 rfl) rfl
theorem q255 : (Jvm.Cond.code ({ cls := "java/lang/StringBuilder", name := "append", desc := "(Ljava/lang/String;)Ljava/lang/StringBuilder;" } : Jvm.MethodName) prog_36_method_7_code (2 : Nat) (Option.some (Jvm.ClassFile.FieldType.object "java/lang/StringBuilder"))) ∈ lw_all := lw_g (lw_at lw_m1 150 rfl) rfl
theorem q256 : (Jvm.Cond.methodLink "java/lang/StringBuilder" (29 : Nat) ({ cls := "java/lang/AbstractStringBuilder", name := "append", desc := "(Ljava/lang/String;)Ljava/lang/AbstractStringBuilder;" } : Jvm.MethodName)) ∈ lw_all := lw_g (lw_at lw_m1 151 rfl) rfl
theorem q301 : (Jvm.Cond.selects "java/lang/StringBuilder" ({ cls := "java/lang/AbstractStringBuilder", name := "isLatin1", desc := "()Z" } : Jvm.MethodName) ({ cls := "java/lang/AbstractStringBuilder", name := "isLatin1", desc := "()Z" } : Jvm.MethodName)) ∈ lw_all := lw_g (lw_at lw_m1 196 rfl) rfl
theorem q373 : (Jvm.Cond.instanceMethod ({ cls := "java/lang/StringBuilder", name := "append", desc := "(I)Ljava/lang/StringBuilder;" } : Jvm.MethodName)) ∈ lw_all := lw_g (lw_at lw_m2 28 rfl) rfl
theorem q374 : (Jvm.Cond.selects "java/lang/StringBuilder" ({ cls := "java/lang/StringBuilder", name := "append", desc := "(I)Ljava/lang/StringBuilder;" } : Jvm.MethodName) ({ cls := "java/lang/StringBuilder", name := "append", desc := "(I)Ljava/lang/StringBuilder;" } : Jvm.MethodName)) ∈ lw_all := lw_g (lw_at lw_m2 29 rfl) rfl
theorem q375 : (Jvm.Cond.code ({ cls := "java/lang/StringBuilder", name := "append", desc := "(I)Ljava/lang/StringBuilder;" } : Jvm.MethodName) prog_36_method_15_code (2 : Nat) (Option.some (Jvm.ClassFile.FieldType.object "java/lang/StringBuilder"))) ∈ lw_all := lw_g (lw_at lw_m2 30 rfl) rfl
theorem q376 : (Jvm.Cond.methodLink "java/lang/StringBuilder" (53 : Nat) ({ cls := "java/lang/AbstractStringBuilder", name := "append", desc := "(I)Ljava/lang/AbstractStringBuilder;" } : Jvm.MethodName)) ∈ lw_all := lw_g (lw_at lw_m2 31 rfl) rfl
theorem q398 : (Jvm.Cond.instanceMethod ({ cls := "java/lang/StringBuilder", name := "toString", desc := "()Ljava/lang/String;" } : Jvm.MethodName)) ∈ lw_all := lw_g (lw_at lw_m2 53 rfl) rfl
theorem q399 : (Jvm.Cond.selects "java/lang/StringBuilder" ({ cls := "java/lang/StringBuilder", name := "toString", desc := "()Ljava/lang/String;" } : Jvm.MethodName) ({ cls := "java/lang/StringBuilder", name := "toString", desc := "()Ljava/lang/String;" } : Jvm.MethodName)) ∈ lw_all := lw_g (lw_at lw_m2 54 rfl) rfl
theorem q400 : (Jvm.Cond.code ({ cls := "java/lang/StringBuilder", name := "toString", desc := "()Ljava/lang/String;" } : Jvm.MethodName) prog_36_method_42_code (1 : Nat) (Option.some (Jvm.ClassFile.FieldType.object "java/lang/String"))) ∈ lw_all := lw_g (lw_at lw_m2 55 rfl) rfl
theorem q401 : (Jvm.Cond.classLink "java/lang/StringBuilder" (18 : Nat) "java/lang/String") ∈ lw_all := lw_g (lw_at lw_m2 56 rfl) rfl
theorem q403 : (Jvm.Cond.methodLink "java/lang/StringBuilder" (137 : Nat) ({ cls := "java/lang/String", name := "<init>", desc := "(Ljava/lang/StringBuilder;)V" } : Jvm.MethodName)) ∈ lw_all := lw_g (lw_at lw_m2 58 rfl) rfl
theorem q413 : (Jvm.Cond.selects "java/lang/StringBuilder" ({ cls := "java/lang/AbstractStringBuilder", name := "getValue", desc := "()[B" } : Jvm.MethodName) ({ cls := "java/lang/AbstractStringBuilder", name := "getValue", desc := "()[B" } : Jvm.MethodName)) ∈ lw_all := lw_g (lw_at lw_m2 68 rfl) rfl
theorem q418 : (Jvm.Cond.selects "java/lang/StringBuilder" ({ cls := "java/lang/AbstractStringBuilder", name := "length", desc := "()I" } : Jvm.MethodName) ({ cls := "java/lang/StringBuilder", name := "length", desc := "()I" } : Jvm.MethodName)) ∈ lw_all := lw_g (lw_at lw_m2 73 rfl) rfl
theorem q419 : (Jvm.Cond.instanceMethod ({ cls := "java/lang/StringBuilder", name := "length", desc := "()I" } : Jvm.MethodName)) ∈ lw_all := lw_g (lw_at lw_m2 74 rfl) rfl
theorem q420 : (Jvm.Cond.code ({ cls := "java/lang/StringBuilder", name := "length", desc := "()I" } : Jvm.MethodName) prog_36_method_93_code (1 : Nat) (Option.some Jvm.ClassFile.FieldType.int)) ∈ lw_all := lw_g (lw_at lw_m2 75 rfl) rfl
theorem q421 : (Jvm.Cond.methodLink "java/lang/StringBuilder" (343 : Nat) ({ cls := "java/lang/AbstractStringBuilder", name := "length", desc := "()I" } : Jvm.MethodName)) ∈ lw_all := lw_g (lw_at lw_m2 76 rfl) rfl
theorem q687 : (Jvm.Cond.selects "java/lang/StringBuilder" ({ cls := "java/lang/Object", name := "getClass", desc := "()Ljava/lang/Class;" } : Jvm.MethodName) ({ cls := "java/lang/Object", name := "getClass", desc := "()Ljava/lang/Class;" } : Jvm.MethodName)) ∈ lw_all := lw_g (lw_at lw_m3 102 rfl) rfl
theorem q930 : (Jvm.Cond.instanceMethod ({ cls := "java/lang/StringBuilder", name := "<init>", desc := "(I)V" } : Jvm.MethodName)) ∈ lw_all := lw_g (lw_at lw_m4 105 rfl) rfl
theorem q931 : (Jvm.Cond.code ({ cls := "java/lang/StringBuilder", name := "<init>", desc := "(I)V" } : Jvm.MethodName) prog_36_method_2_code (2 : Nat) (Option.none : Option Jvm.ClassFile.FieldType)) ∈ lw_all := lw_g (lw_at lw_m4 106 rfl) rfl
theorem q934 : (Jvm.Cond.instanceMethod ({ cls := "java/lang/StringBuilder", name := "append", desc := "(C)Ljava/lang/StringBuilder;" } : Jvm.MethodName)) ∈ lw_all := lw_g (lw_at lw_m4 109 rfl) rfl
theorem q935 : (Jvm.Cond.selects "java/lang/StringBuilder" ({ cls := "java/lang/StringBuilder", name := "append", desc := "(C)Ljava/lang/StringBuilder;" } : Jvm.MethodName) ({ cls := "java/lang/StringBuilder", name := "append", desc := "(C)Ljava/lang/StringBuilder;" } : Jvm.MethodName)) ∈ lw_all := lw_g (lw_at lw_m4 110 rfl) rfl
theorem q936 : (Jvm.Cond.code ({ cls := "java/lang/StringBuilder", name := "append", desc := "(C)Ljava/lang/StringBuilder;" } : Jvm.MethodName) prog_36_method_14_code (2 : Nat) (Option.some (Jvm.ClassFile.FieldType.object "java/lang/StringBuilder"))) ∈ lw_all := lw_g (lw_at lw_m4 111 rfl) rfl
theorem q937 : (Jvm.Cond.methodLink "java/lang/StringBuilder" (50 : Nat) ({ cls := "java/lang/AbstractStringBuilder", name := "append", desc := "(C)Ljava/lang/AbstractStringBuilder;" } : Jvm.MethodName)) ∈ lw_all := lw_g (lw_at lw_m4 112 rfl) rfl
theorem q2342 : (Jvm.Cond.selects "java/lang/StringBuilder" ({ cls := "java/lang/StringBuilder", name := "length", desc := "()I" } : Jvm.MethodName) ({ cls := "java/lang/StringBuilder", name := "length", desc := "()I" } : Jvm.MethodName)) ∈ lw_all := lw_g (lw_at lw_m10 77 rfl) rfl
theorem q2353 : (Jvm.Cond.castable "java/lang/StringBuilder" "java/lang/Object") ∈ lw_tbl := lw_at lw_m10 88 rfl
theorem in_J8 : ∀ w ∈ wsJ80, w ∈ lw_all := lw_in wsJ80 [240, 242, 244, 246] (by decide +kernel) (by decide +kernel)

/-! java/lang/String -/
set_option maxRecDepth 100000
def RJ9 : String := "java/lang/String"
def TJ9 : u_T := fun k => match k with
  | 0 => ("java/lang/String", "value", "[B", true)
  | 1 => ("java/lang/String", "coder", "B", true)
  | 2 => ("java/lang/String", "hash", "I", false)
  | _ => ("java/lang/String", "hashIsZero", "Z", false)
def tyJ9 : Nat → FieldType := fun k => match k with
  | 0 => .array .byte
  | 1 => .byte
  | 2 => .int
  | _ => .boolean
abbrev wsJ90 : List Cond := u_ws RJ9 TJ9 4
theorem nmJ9 : ∀ a, a < 4 → ∀ b, b < 4 → a ≠ b → (TJ9 a).2.1 ≠ (TJ9 b).2.1 := by decide +kernel
theorem tyJ9_ok : ∀ k, k < 4 → parseFieldDescriptor (TJ9 k).2.2.1 = some (tyJ9 k) := by decide +kernel
abbrev cJ9_checkBoundsBeginEnd : ByteArray := prog_35_method_158_code
def yJ9_checkBoundsBeginEnd : MethodName := ⟨RJ9, "checkBoundsBeginEnd", "(III)V"⟩
def dkwJ9_checkBoundsBeginEnd_0 : List UInt8 := [26, 27, 28, 178, 4, 29, 184, 4, 38, 87, 177]
abbrev dktJ9_checkBoundsBeginEnd_0 : List UInt8 := dkwJ9_checkBoundsBeginEnd_0 ++ []
theorem dksJ9_checkBoundsBeginEnd_0 : cJ9_checkBoundsBeginEnd.data.toList.drop 0 = dktJ9_checkBoundsBeginEnd_0 := by decide +kernel
theorem dJ9_checkBoundsBeginEnd_0 : decode cJ9_checkBoundsBeginEnd 0 = .ok (.iload_n 0, 1) := dk_26 (dk_at dksJ9_checkBoundsBeginEnd_0 0 rfl rfl)
theorem dJ9_checkBoundsBeginEnd_1 : decode cJ9_checkBoundsBeginEnd 1 = .ok (.iload_n 1, 1) := dk_27 (dk_at dksJ9_checkBoundsBeginEnd_0 1 rfl rfl)
theorem dJ9_checkBoundsBeginEnd_2 : decode cJ9_checkBoundsBeginEnd 2 = .ok (.iload_n 2, 1) := dk_28 (dk_at dksJ9_checkBoundsBeginEnd_0 2 rfl rfl)
theorem dJ9_checkBoundsBeginEnd_3 : decode cJ9_checkBoundsBeginEnd 3 = .ok (.getstatic 1053, 3) := dk_178 4 29 (dk_at dksJ9_checkBoundsBeginEnd_0 3 rfl rfl)
theorem dJ9_checkBoundsBeginEnd_6 : decode cJ9_checkBoundsBeginEnd 6 = .ok (.invokestatic 1062, 3) := dk_184 4 38 (dk_at dksJ9_checkBoundsBeginEnd_0 6 rfl rfl)
theorem dJ9_checkBoundsBeginEnd_9 : decode cJ9_checkBoundsBeginEnd 9 = .ok (.pop, 1) := dk_87 (dk_at dksJ9_checkBoundsBeginEnd_0 9 rfl rfl)
theorem dJ9_checkBoundsBeginEnd_10 : decode cJ9_checkBoundsBeginEnd 10 = .ok (.return_, 1) := dk_177 (dk_at dksJ9_checkBoundsBeginEnd_0 10 rfl rfl)
abbrev cJ9_length : ByteArray := prog_35_method_54_code
def yJ9_length : MethodName := ⟨RJ9, "length", "()I"⟩
def dkwJ9_length_0 : List UInt8 := [42, 180, 0, 9, 190, 42, 182, 1, 79, 122, 172]
abbrev dktJ9_length_0 : List UInt8 := dkwJ9_length_0 ++ []
theorem dksJ9_length_0 : cJ9_length.data.toList.drop 0 = dktJ9_length_0 := by decide +kernel
theorem dJ9_length_0 : decode cJ9_length 0 = .ok (.aload_n 0, 1) := dk_42 (dk_at dksJ9_length_0 0 rfl rfl)
theorem dJ9_length_1 : decode cJ9_length 1 = .ok (.getfield 9, 3) := dk_180 0 9 (dk_at dksJ9_length_0 1 rfl rfl)
theorem dJ9_length_4 : decode cJ9_length 4 = .ok (.arraylength, 1) := dk_190 (dk_at dksJ9_length_0 4 rfl rfl)
theorem dJ9_length_5 : decode cJ9_length 5 = .ok (.aload_n 0, 1) := dk_42 (dk_at dksJ9_length_0 5 rfl rfl)
theorem dJ9_length_6 : decode cJ9_length 6 = .ok (.invokevirtual 335, 3) := dk_182 1 79 (dk_at dksJ9_length_0 6 rfl rfl)
theorem dJ9_length_9 : decode cJ9_length 9 = .ok (.ishr, 1) := dk_122 (dk_at dksJ9_length_0 9 rfl rfl)
theorem dJ9_length_10 : decode cJ9_length 10 = .ok (.ireturn, 1) := dk_172 (dk_at dksJ9_length_0 10 rfl rfl)
abbrev cJ9_coder : ByteArray := prog_35_method_152_code
def yJ9_coder : MethodName := ⟨RJ9, "coder", "()B"⟩
def dkwJ9_coder_0 : List UInt8 := [178, 0, 38, 153, 0, 10, 42, 180, 0, 15, 167, 0, 4, 4, 172]
abbrev dktJ9_coder_0 : List UInt8 := dkwJ9_coder_0 ++ []
theorem dksJ9_coder_0 : cJ9_coder.data.toList.drop 0 = dktJ9_coder_0 := by decide +kernel
theorem dJ9_coder_0 : decode cJ9_coder 0 = .ok (.getstatic 38, 3) := dk_178 0 38 (dk_at dksJ9_coder_0 0 rfl rfl)
theorem dJ9_coder_3 : decode cJ9_coder 3 = .ok (.ifCond .eq 10, 3) := dk_153 0 10 (dk_at dksJ9_coder_0 3 rfl rfl)
theorem dJ9_coder_6 : decode cJ9_coder 6 = .ok (.aload_n 0, 1) := dk_42 (dk_at dksJ9_coder_0 6 rfl rfl)
theorem dJ9_coder_7 : decode cJ9_coder 7 = .ok (.getfield 15, 3) := dk_180 0 15 (dk_at dksJ9_coder_0 7 rfl rfl)
theorem dJ9_coder_10 : decode cJ9_coder 10 = .ok (.goto 4, 3) := dk_167 0 4 (dk_at dksJ9_coder_0 10 rfl rfl)
theorem dJ9_coder_13 : decode cJ9_coder 13 = .ok (.iconst 1, 1) := dk_4 (dk_at dksJ9_coder_0 13 rfl rfl)
theorem dJ9_coder_14 : decode cJ9_coder 14 = .ok (.ireturn, 1) := dk_172 (dk_at dksJ9_coder_0 14 rfl rfl)
abbrev cJ9_checkBoundsOffCount : ByteArray := prog_35_method_157_code
def yJ9_checkBoundsOffCount : MethodName := ⟨RJ9, "checkBoundsOffCount", "(III)I"⟩
def dkwJ9_checkBoundsOffCount_0 : List UInt8 := [26, 27, 28, 178, 4, 29, 184, 4, 41, 172]
abbrev dktJ9_checkBoundsOffCount_0 : List UInt8 := dkwJ9_checkBoundsOffCount_0 ++ []
theorem dksJ9_checkBoundsOffCount_0 : cJ9_checkBoundsOffCount.data.toList.drop 0 = dktJ9_checkBoundsOffCount_0 := by decide +kernel
theorem dJ9_checkBoundsOffCount_0 : decode cJ9_checkBoundsOffCount 0 = .ok (.iload_n 0, 1) := dk_26 (dk_at dksJ9_checkBoundsOffCount_0 0 rfl rfl)
theorem dJ9_checkBoundsOffCount_1 : decode cJ9_checkBoundsOffCount 1 = .ok (.iload_n 1, 1) := dk_27 (dk_at dksJ9_checkBoundsOffCount_0 1 rfl rfl)
theorem dJ9_checkBoundsOffCount_2 : decode cJ9_checkBoundsOffCount 2 = .ok (.iload_n 2, 1) := dk_28 (dk_at dksJ9_checkBoundsOffCount_0 2 rfl rfl)
theorem dJ9_checkBoundsOffCount_3 : decode cJ9_checkBoundsOffCount 3 = .ok (.getstatic 1053, 3) := dk_178 4 29 (dk_at dksJ9_checkBoundsOffCount_0 3 rfl rfl)
theorem dJ9_checkBoundsOffCount_6 : decode cJ9_checkBoundsOffCount 6 = .ok (.invokestatic 1065, 3) := dk_184 4 41 (dk_at dksJ9_checkBoundsOffCount_0 6 rfl rfl)
theorem dJ9_checkBoundsOffCount_9 : decode cJ9_checkBoundsOffCount 9 = .ok (.ireturn, 1) := dk_172 (dk_at dksJ9_checkBoundsOffCount_0 9 rfl rfl)
abbrev cJ9_getBytes : ByteArray := prog_35_method_147_code
def yJ9_getBytes : MethodName := ⟨RJ9, "getBytes", "([BIB)V"⟩
def dkwJ9_getBytes_1 : List UInt8 := [184, 0, 212, 167, 0, 18, 42, 180, 0, 9, 3, 43, 28, 42, 180, 0, 9, 190, 184, 0, 106, 177]
abbrev dktJ9_getBytes_1 : List UInt8 := dkwJ9_getBytes_1 ++ []
def dkwJ9_getBytes_0 : List UInt8 := [42, 182, 1, 79, 29, 160, 0, 23, 42, 180, 0, 9, 3, 43, 28, 29, 120, 42, 180, 0, 9, 190]
abbrev dktJ9_getBytes_0 : List UInt8 := dkwJ9_getBytes_0 ++ dktJ9_getBytes_1
theorem dksJ9_getBytes_0 : cJ9_getBytes.data.toList.drop 0 = dktJ9_getBytes_0 := by decide +kernel
theorem dksJ9_getBytes_1 : cJ9_getBytes.data.toList.drop 22 = dktJ9_getBytes_1 := dk_seg dksJ9_getBytes_0 22 rfl rfl
theorem dJ9_getBytes_0 : decode cJ9_getBytes 0 = .ok (.aload_n 0, 1) := dk_42 (dk_at dksJ9_getBytes_0 0 rfl rfl)
theorem dJ9_getBytes_1 : decode cJ9_getBytes 1 = .ok (.invokevirtual 335, 3) := dk_182 1 79 (dk_at dksJ9_getBytes_0 1 rfl rfl)
theorem dJ9_getBytes_4 : decode cJ9_getBytes 4 = .ok (.iload_n 3, 1) := dk_29 (dk_at dksJ9_getBytes_0 4 rfl rfl)
theorem dJ9_getBytes_5 : decode cJ9_getBytes 5 = .ok (.if_icmp .ne 23, 3) := dk_160 0 23 (dk_at dksJ9_getBytes_0 5 rfl rfl)
theorem dJ9_getBytes_8 : decode cJ9_getBytes 8 = .ok (.aload_n 0, 1) := dk_42 (dk_at dksJ9_getBytes_0 8 rfl rfl)
theorem dJ9_getBytes_9 : decode cJ9_getBytes 9 = .ok (.getfield 9, 3) := dk_180 0 9 (dk_at dksJ9_getBytes_0 9 rfl rfl)
theorem dJ9_getBytes_12 : decode cJ9_getBytes 12 = .ok (.iconst 0, 1) := dk_3 (dk_at dksJ9_getBytes_0 12 rfl rfl)
theorem dJ9_getBytes_13 : decode cJ9_getBytes 13 = .ok (.aload_n 1, 1) := dk_43 (dk_at dksJ9_getBytes_0 13 rfl rfl)
theorem dJ9_getBytes_14 : decode cJ9_getBytes 14 = .ok (.iload_n 2, 1) := dk_28 (dk_at dksJ9_getBytes_0 14 rfl rfl)
theorem dJ9_getBytes_15 : decode cJ9_getBytes 15 = .ok (.iload_n 3, 1) := dk_29 (dk_at dksJ9_getBytes_0 15 rfl rfl)
theorem dJ9_getBytes_16 : decode cJ9_getBytes 16 = .ok (.ishl, 1) := dk_120 (dk_at dksJ9_getBytes_0 16 rfl rfl)
theorem dJ9_getBytes_17 : decode cJ9_getBytes 17 = .ok (.aload_n 0, 1) := dk_42 (dk_at dksJ9_getBytes_0 17 rfl rfl)
theorem dJ9_getBytes_18 : decode cJ9_getBytes 18 = .ok (.getfield 9, 3) := dk_180 0 9 (dk_at dksJ9_getBytes_0 18 rfl rfl)
theorem dJ9_getBytes_21 : decode cJ9_getBytes 21 = .ok (.arraylength, 1) := dk_190 (dk_at dksJ9_getBytes_0 21 rfl rfl)
theorem dJ9_getBytes_22 : decode cJ9_getBytes 22 = .ok (.invokestatic 212, 3) := dk_184 0 212 (dk_at dksJ9_getBytes_1 0 rfl rfl)
theorem dJ9_getBytes_25 : decode cJ9_getBytes 25 = .ok (.goto 18, 3) := dk_167 0 18 (dk_at dksJ9_getBytes_1 3 rfl rfl)
theorem dJ9_getBytes_28 : decode cJ9_getBytes 28 = .ok (.aload_n 0, 1) := dk_42 (dk_at dksJ9_getBytes_1 6 rfl rfl)
theorem dJ9_getBytes_29 : decode cJ9_getBytes 29 = .ok (.getfield 9, 3) := dk_180 0 9 (dk_at dksJ9_getBytes_1 7 rfl rfl)
theorem dJ9_getBytes_32 : decode cJ9_getBytes 32 = .ok (.iconst 0, 1) := dk_3 (dk_at dksJ9_getBytes_1 10 rfl rfl)
theorem dJ9_getBytes_33 : decode cJ9_getBytes 33 = .ok (.aload_n 1, 1) := dk_43 (dk_at dksJ9_getBytes_1 11 rfl rfl)
theorem dJ9_getBytes_34 : decode cJ9_getBytes 34 = .ok (.iload_n 2, 1) := dk_28 (dk_at dksJ9_getBytes_1 12 rfl rfl)
theorem dJ9_getBytes_35 : decode cJ9_getBytes 35 = .ok (.aload_n 0, 1) := dk_42 (dk_at dksJ9_getBytes_1 13 rfl rfl)
theorem dJ9_getBytes_36 : decode cJ9_getBytes 36 = .ok (.getfield 9, 3) := dk_180 0 9 (dk_at dksJ9_getBytes_1 14 rfl rfl)
theorem dJ9_getBytes_39 : decode cJ9_getBytes 39 = .ok (.arraylength, 1) := dk_190 (dk_at dksJ9_getBytes_1 17 rfl rfl)
theorem dJ9_getBytes_40 : decode cJ9_getBytes 40 = .ok (.invokestatic 106, 3) := dk_184 0 106 (dk_at dksJ9_getBytes_1 18 rfl rfl)
theorem dJ9_getBytes_43 : decode cJ9_getBytes 43 = .ok (.return_, 1) := dk_177 (dk_at dksJ9_getBytes_1 21 rfl rfl)
abbrev cJ9_init : ByteArray := prog_35_method_53_code
def yJ9_init : MethodName := ⟨RJ9, "<init>", "(Ljava/lang/StringBuilder;)V"⟩
def dkwJ9_init_0 : List UInt8 := [42, 43, 1, 183, 1, 233, 177]
abbrev dktJ9_init_0 : List UInt8 := dkwJ9_init_0 ++ []
theorem dksJ9_init_0 : cJ9_init.data.toList.drop 0 = dktJ9_init_0 := by decide +kernel
theorem dJ9_init_0 : decode cJ9_init 0 = .ok (.aload_n 0, 1) := dk_42 (dk_at dksJ9_init_0 0 rfl rfl)
theorem dJ9_init_1 : decode cJ9_init 1 = .ok (.aload_n 1, 1) := dk_43 (dk_at dksJ9_init_0 1 rfl rfl)
theorem dJ9_init_2 : decode cJ9_init 2 = .ok (.aconst_null, 1) := dk_1 (dk_at dksJ9_init_0 2 rfl rfl)
theorem dJ9_init_3 : decode cJ9_init 3 = .ok (.invokespecial 489, 3) := dk_183 1 233 (dk_at dksJ9_init_0 3 rfl rfl)
theorem dJ9_init_6 : decode cJ9_init 6 = .ok (.return_, 1) := dk_177 (dk_at dksJ9_init_0 6 rfl rfl)
abbrev cJ9_init_2 : ByteArray := prog_35_method_150_code
def yJ9_init_2 : MethodName := ⟨RJ9, "<init>", "(Ljava/lang/AbstractStringBuilder;Ljava/lang/Void;)V"⟩
def dkwJ9_init_2_4 : List UInt8 := [181, 0, 9, 177]
abbrev dktJ9_init_2_4 : List UInt8 := dkwJ9_init_2_4 ++ []
def dkwJ9_init_2_3 : List UInt8 := [184, 0, 47, 181, 0, 15, 177, 42, 4, 181, 0, 15, 42, 45, 3, 21, 4, 4, 120, 184, 0, 54]
abbrev dktJ9_init_2_3 : List UInt8 := dkwJ9_init_2_3 ++ dktJ9_init_2_4
def dkwJ9_init_2_2 : List UInt8 := [180, 4, 24, 153, 0, 28, 42, 45, 3, 21, 4, 184, 4, 27, 181, 0, 9, 42, 42, 180, 0, 9, 21, 4]
abbrev dktJ9_init_2_2 : List UInt8 := dkwJ9_init_2_2 ++ dktJ9_init_2_3
def dkwJ9_init_2_1 : List UInt8 := [181, 0, 15, 42, 45, 3, 21, 4, 184, 0, 54, 181, 0, 9, 167, 0, 59, 178, 0, 38, 153, 0, 35, 43]
abbrev dktJ9_init_2_1 : List UInt8 := dkwJ9_init_2_1 ++ dktJ9_init_2_2
def dkwJ9_init_2_0 : List UInt8 := [42, 183, 0, 1, 43, 182, 2, 40, 78, 43, 182, 2, 37, 54, 4, 43, 182, 4, 23, 153, 0, 22, 42, 3]
abbrev dktJ9_init_2_0 : List UInt8 := dkwJ9_init_2_0 ++ dktJ9_init_2_1
theorem dksJ9_init_2_0 : cJ9_init_2.data.toList.drop 0 = dktJ9_init_2_0 := by decide +kernel
theorem dksJ9_init_2_1 : cJ9_init_2.data.toList.drop 24 = dktJ9_init_2_1 := dk_seg dksJ9_init_2_0 24 rfl rfl
theorem dksJ9_init_2_2 : cJ9_init_2.data.toList.drop 48 = dktJ9_init_2_2 := dk_seg dksJ9_init_2_1 24 rfl rfl
theorem dksJ9_init_2_3 : cJ9_init_2.data.toList.drop 72 = dktJ9_init_2_3 := dk_seg dksJ9_init_2_2 24 rfl rfl
theorem dksJ9_init_2_4 : cJ9_init_2.data.toList.drop 94 = dktJ9_init_2_4 := dk_seg dksJ9_init_2_3 22 rfl rfl
theorem dJ9_init_2_0 : decode cJ9_init_2 0 = .ok (.aload_n 0, 1) := dk_42 (dk_at dksJ9_init_2_0 0 rfl rfl)
theorem dJ9_init_2_1 : decode cJ9_init_2 1 = .ok (.invokespecial 1, 3) := dk_183 0 1 (dk_at dksJ9_init_2_0 1 rfl rfl)
theorem dJ9_init_2_4 : decode cJ9_init_2 4 = .ok (.aload_n 1, 1) := dk_43 (dk_at dksJ9_init_2_0 4 rfl rfl)
theorem dJ9_init_2_5 : decode cJ9_init_2 5 = .ok (.invokevirtual 552, 3) := dk_182 2 40 (dk_at dksJ9_init_2_0 5 rfl rfl)
theorem dJ9_init_2_8 : decode cJ9_init_2 8 = .ok (.astore_n 3, 1) := dk_78 (dk_at dksJ9_init_2_0 8 rfl rfl)
theorem dJ9_init_2_9 : decode cJ9_init_2 9 = .ok (.aload_n 1, 1) := dk_43 (dk_at dksJ9_init_2_0 9 rfl rfl)
theorem dJ9_init_2_10 : decode cJ9_init_2 10 = .ok (.invokevirtual 549, 3) := dk_182 2 37 (dk_at dksJ9_init_2_0 10 rfl rfl)
theorem dJ9_init_2_13 : decode cJ9_init_2 13 = .ok (.istore 4, 2) := dk_54 4 (dk_at dksJ9_init_2_0 13 rfl rfl)
theorem dJ9_init_2_15 : decode cJ9_init_2 15 = .ok (.aload_n 1, 1) := dk_43 (dk_at dksJ9_init_2_0 15 rfl rfl)
theorem dJ9_init_2_16 : decode cJ9_init_2 16 = .ok (.invokevirtual 1047, 3) := dk_182 4 23 (dk_at dksJ9_init_2_0 16 rfl rfl)
theorem dJ9_init_2_19 : decode cJ9_init_2 19 = .ok (.ifCond .eq 22, 3) := dk_153 0 22 (dk_at dksJ9_init_2_0 19 rfl rfl)
theorem dJ9_init_2_22 : decode cJ9_init_2 22 = .ok (.aload_n 0, 1) := dk_42 (dk_at dksJ9_init_2_0 22 rfl rfl)
theorem dJ9_init_2_23 : decode cJ9_init_2 23 = .ok (.iconst 0, 1) := dk_3 (dk_at dksJ9_init_2_0 23 rfl rfl)
theorem dJ9_init_2_24 : decode cJ9_init_2 24 = .ok (.putfield 15, 3) := dk_181 0 15 (dk_at dksJ9_init_2_1 0 rfl rfl)
theorem dJ9_init_2_27 : decode cJ9_init_2 27 = .ok (.aload_n 0, 1) := dk_42 (dk_at dksJ9_init_2_1 3 rfl rfl)
theorem dJ9_init_2_28 : decode cJ9_init_2 28 = .ok (.aload_n 3, 1) := dk_45 (dk_at dksJ9_init_2_1 4 rfl rfl)
theorem dJ9_init_2_29 : decode cJ9_init_2 29 = .ok (.iconst 0, 1) := dk_3 (dk_at dksJ9_init_2_1 5 rfl rfl)
theorem dJ9_init_2_30 : decode cJ9_init_2 30 = .ok (.iload 4, 2) := dk_21 4 (dk_at dksJ9_init_2_1 6 rfl rfl)
theorem dJ9_init_2_32 : decode cJ9_init_2 32 = .ok (.invokestatic 54, 3) := dk_184 0 54 (dk_at dksJ9_init_2_1 8 rfl rfl)
theorem dJ9_init_2_35 : decode cJ9_init_2 35 = .ok (.putfield 9, 3) := dk_181 0 9 (dk_at dksJ9_init_2_1 11 rfl rfl)
theorem dJ9_init_2_38 : decode cJ9_init_2 38 = .ok (.goto 59, 3) := dk_167 0 59 (dk_at dksJ9_init_2_1 14 rfl rfl)
theorem dJ9_init_2_41 : decode cJ9_init_2 41 = .ok (.getstatic 38, 3) := dk_178 0 38 (dk_at dksJ9_init_2_1 17 rfl rfl)
theorem dJ9_init_2_44 : decode cJ9_init_2 44 = .ok (.ifCond .eq 35, 3) := dk_153 0 35 (dk_at dksJ9_init_2_1 20 rfl rfl)
theorem dJ9_init_2_47 : decode cJ9_init_2 47 = .ok (.aload_n 1, 1) := dk_43 (dk_at dksJ9_init_2_1 23 rfl rfl)
theorem dJ9_init_2_48 : decode cJ9_init_2 48 = .ok (.getfield 1048, 3) := dk_180 4 24 (dk_at dksJ9_init_2_2 0 rfl rfl)
theorem dJ9_init_2_51 : decode cJ9_init_2 51 = .ok (.ifCond .eq 28, 3) := dk_153 0 28 (dk_at dksJ9_init_2_2 3 rfl rfl)
theorem dJ9_init_2_54 : decode cJ9_init_2 54 = .ok (.aload_n 0, 1) := dk_42 (dk_at dksJ9_init_2_2 6 rfl rfl)
theorem dJ9_init_2_55 : decode cJ9_init_2 55 = .ok (.aload_n 3, 1) := dk_45 (dk_at dksJ9_init_2_2 7 rfl rfl)
theorem dJ9_init_2_56 : decode cJ9_init_2 56 = .ok (.iconst 0, 1) := dk_3 (dk_at dksJ9_init_2_2 8 rfl rfl)
theorem dJ9_init_2_57 : decode cJ9_init_2 57 = .ok (.iload 4, 2) := dk_21 4 (dk_at dksJ9_init_2_2 9 rfl rfl)
theorem dJ9_init_2_59 : decode cJ9_init_2 59 = .ok (.invokestatic 1051, 3) := dk_184 4 27 (dk_at dksJ9_init_2_2 11 rfl rfl)
theorem dJ9_init_2_62 : decode cJ9_init_2 62 = .ok (.putfield 9, 3) := dk_181 0 9 (dk_at dksJ9_init_2_2 14 rfl rfl)
theorem dJ9_init_2_65 : decode cJ9_init_2 65 = .ok (.aload_n 0, 1) := dk_42 (dk_at dksJ9_init_2_2 17 rfl rfl)
theorem dJ9_init_2_66 : decode cJ9_init_2 66 = .ok (.aload_n 0, 1) := dk_42 (dk_at dksJ9_init_2_2 18 rfl rfl)
theorem dJ9_init_2_67 : decode cJ9_init_2 67 = .ok (.getfield 9, 3) := dk_180 0 9 (dk_at dksJ9_init_2_2 19 rfl rfl)
theorem dJ9_init_2_70 : decode cJ9_init_2 70 = .ok (.iload 4, 2) := dk_21 4 (dk_at dksJ9_init_2_2 22 rfl rfl)
theorem dJ9_init_2_72 : decode cJ9_init_2 72 = .ok (.invokestatic 47, 3) := dk_184 0 47 (dk_at dksJ9_init_2_3 0 rfl rfl)
theorem dJ9_init_2_75 : decode cJ9_init_2 75 = .ok (.putfield 15, 3) := dk_181 0 15 (dk_at dksJ9_init_2_3 3 rfl rfl)
theorem dJ9_init_2_78 : decode cJ9_init_2 78 = .ok (.return_, 1) := dk_177 (dk_at dksJ9_init_2_3 6 rfl rfl)
theorem dJ9_init_2_79 : decode cJ9_init_2 79 = .ok (.aload_n 0, 1) := dk_42 (dk_at dksJ9_init_2_3 7 rfl rfl)
theorem dJ9_init_2_80 : decode cJ9_init_2 80 = .ok (.iconst 1, 1) := dk_4 (dk_at dksJ9_init_2_3 8 rfl rfl)
theorem dJ9_init_2_81 : decode cJ9_init_2 81 = .ok (.putfield 15, 3) := dk_181 0 15 (dk_at dksJ9_init_2_3 9 rfl rfl)
theorem dJ9_init_2_84 : decode cJ9_init_2 84 = .ok (.aload_n 0, 1) := dk_42 (dk_at dksJ9_init_2_3 12 rfl rfl)
theorem dJ9_init_2_85 : decode cJ9_init_2 85 = .ok (.aload_n 3, 1) := dk_45 (dk_at dksJ9_init_2_3 13 rfl rfl)
theorem dJ9_init_2_86 : decode cJ9_init_2 86 = .ok (.iconst 0, 1) := dk_3 (dk_at dksJ9_init_2_3 14 rfl rfl)
theorem dJ9_init_2_87 : decode cJ9_init_2 87 = .ok (.iload 4, 2) := dk_21 4 (dk_at dksJ9_init_2_3 15 rfl rfl)
theorem dJ9_init_2_89 : decode cJ9_init_2 89 = .ok (.iconst 1, 1) := dk_4 (dk_at dksJ9_init_2_3 17 rfl rfl)
theorem dJ9_init_2_90 : decode cJ9_init_2 90 = .ok (.ishl, 1) := dk_120 (dk_at dksJ9_init_2_3 18 rfl rfl)
theorem dJ9_init_2_91 : decode cJ9_init_2 91 = .ok (.invokestatic 54, 3) := dk_184 0 54 (dk_at dksJ9_init_2_3 19 rfl rfl)
theorem dJ9_init_2_94 : decode cJ9_init_2 94 = .ok (.putfield 9, 3) := dk_181 0 9 (dk_at dksJ9_init_2_4 0 rfl rfl)
theorem dJ9_init_2_97 : decode cJ9_init_2 97 = .ok (.return_, 1) := dk_177 (dk_at dksJ9_init_2_4 3 rfl rfl)
abbrev cJ9_checkIndex : ByteArray := prog_35_method_155_code
def yJ9_checkIndex : MethodName := ⟨RJ9, "checkIndex", "(II)V"⟩
def dkwJ9_checkIndex_0 : List UInt8 := [26, 27, 178, 4, 29, 184, 4, 35, 87, 177]
abbrev dktJ9_checkIndex_0 : List UInt8 := dkwJ9_checkIndex_0 ++ []
theorem dksJ9_checkIndex_0 : cJ9_checkIndex.data.toList.drop 0 = dktJ9_checkIndex_0 := by decide +kernel
theorem dJ9_checkIndex_0 : decode cJ9_checkIndex 0 = .ok (.iload_n 0, 1) := dk_26 (dk_at dksJ9_checkIndex_0 0 rfl rfl)
theorem dJ9_checkIndex_1 : decode cJ9_checkIndex 1 = .ok (.iload_n 1, 1) := dk_27 (dk_at dksJ9_checkIndex_0 1 rfl rfl)
theorem dJ9_checkIndex_2 : decode cJ9_checkIndex 2 = .ok (.getstatic 1053, 3) := dk_178 4 29 (dk_at dksJ9_checkIndex_0 2 rfl rfl)
theorem dJ9_checkIndex_5 : decode cJ9_checkIndex 5 = .ok (.invokestatic 1059, 3) := dk_184 4 35 (dk_at dksJ9_checkIndex_0 5 rfl rfl)
theorem dJ9_checkIndex_8 : decode cJ9_checkIndex 8 = .ok (.pop, 1) := dk_87 (dk_at dksJ9_checkIndex_0 8 rfl rfl)
theorem dJ9_checkIndex_9 : decode cJ9_checkIndex 9 = .ok (.return_, 1) := dk_177 (dk_at dksJ9_checkIndex_0 9 rfl rfl)
abbrev cJ9_valueOf : ByteArray := prog_35_method_139_code
def yJ9_valueOf : MethodName := ⟨RJ9, "valueOf", "(C)Ljava/lang/String;"⟩
def dkwJ9_valueOf_1 : List UInt8 := [183, 0, 209, 176, 187, 0, 10, 89, 26, 184, 3, 253, 4, 183, 0, 209, 176]
abbrev dktJ9_valueOf_1 : List UInt8 := dkwJ9_valueOf_1 ++ []
def dkwJ9_valueOf_0 : List UInt8 := [178, 0, 38, 153, 0, 23, 26, 184, 3, 247, 153, 0, 16, 187, 0, 10, 89, 26, 184, 3, 250, 3]
abbrev dktJ9_valueOf_0 : List UInt8 := dkwJ9_valueOf_0 ++ dktJ9_valueOf_1
theorem dksJ9_valueOf_0 : cJ9_valueOf.data.toList.drop 0 = dktJ9_valueOf_0 := by decide +kernel
theorem dksJ9_valueOf_1 : cJ9_valueOf.data.toList.drop 22 = dktJ9_valueOf_1 := dk_seg dksJ9_valueOf_0 22 rfl rfl
theorem dJ9_valueOf_0 : decode cJ9_valueOf 0 = .ok (.getstatic 38, 3) := dk_178 0 38 (dk_at dksJ9_valueOf_0 0 rfl rfl)
theorem dJ9_valueOf_3 : decode cJ9_valueOf 3 = .ok (.ifCond .eq 23, 3) := dk_153 0 23 (dk_at dksJ9_valueOf_0 3 rfl rfl)
theorem dJ9_valueOf_6 : decode cJ9_valueOf 6 = .ok (.iload_n 0, 1) := dk_26 (dk_at dksJ9_valueOf_0 6 rfl rfl)
theorem dJ9_valueOf_7 : decode cJ9_valueOf 7 = .ok (.invokestatic 1015, 3) := dk_184 3 247 (dk_at dksJ9_valueOf_0 7 rfl rfl)
theorem dJ9_valueOf_10 : decode cJ9_valueOf 10 = .ok (.ifCond .eq 16, 3) := dk_153 0 16 (dk_at dksJ9_valueOf_0 10 rfl rfl)
theorem dJ9_valueOf_13 : decode cJ9_valueOf 13 = .ok (.new 10, 3) := dk_187 0 10 (dk_at dksJ9_valueOf_0 13 rfl rfl)
theorem dJ9_valueOf_16 : decode cJ9_valueOf 16 = .ok (.dup, 1) := dk_89 (dk_at dksJ9_valueOf_0 16 rfl rfl)
theorem dJ9_valueOf_17 : decode cJ9_valueOf 17 = .ok (.iload_n 0, 1) := dk_26 (dk_at dksJ9_valueOf_0 17 rfl rfl)
theorem dJ9_valueOf_18 : decode cJ9_valueOf 18 = .ok (.invokestatic 1018, 3) := dk_184 3 250 (dk_at dksJ9_valueOf_0 18 rfl rfl)
theorem dJ9_valueOf_21 : decode cJ9_valueOf 21 = .ok (.iconst 0, 1) := dk_3 (dk_at dksJ9_valueOf_0 21 rfl rfl)
theorem dJ9_valueOf_22 : decode cJ9_valueOf 22 = .ok (.invokespecial 209, 3) := dk_183 0 209 (dk_at dksJ9_valueOf_1 0 rfl rfl)
theorem dJ9_valueOf_25 : decode cJ9_valueOf 25 = .ok (.areturn, 1) := dk_176 (dk_at dksJ9_valueOf_1 3 rfl rfl)
theorem dJ9_valueOf_26 : decode cJ9_valueOf 26 = .ok (.new 10, 3) := dk_187 0 10 (dk_at dksJ9_valueOf_1 4 rfl rfl)
theorem dJ9_valueOf_29 : decode cJ9_valueOf 29 = .ok (.dup, 1) := dk_89 (dk_at dksJ9_valueOf_1 7 rfl rfl)
theorem dJ9_valueOf_30 : decode cJ9_valueOf 30 = .ok (.iload_n 0, 1) := dk_26 (dk_at dksJ9_valueOf_1 8 rfl rfl)
theorem dJ9_valueOf_31 : decode cJ9_valueOf 31 = .ok (.invokestatic 1021, 3) := dk_184 3 253 (dk_at dksJ9_valueOf_1 9 rfl rfl)
theorem dJ9_valueOf_34 : decode cJ9_valueOf 34 = .ok (.iconst 1, 1) := dk_4 (dk_at dksJ9_valueOf_1 12 rfl rfl)
theorem dJ9_valueOf_35 : decode cJ9_valueOf 35 = .ok (.invokespecial 209, 3) := dk_183 0 209 (dk_at dksJ9_valueOf_1 13 rfl rfl)
theorem dJ9_valueOf_38 : decode cJ9_valueOf 38 = .ok (.areturn, 1) := dk_176 (dk_at dksJ9_valueOf_1 16 rfl rfl)
abbrev cJ9_init_3 : ByteArray := prog_35_method_151_code
def yJ9_init_3 : MethodName := ⟨RJ9, "<init>", "([BB)V"⟩
def dkwJ9_init_3_0 : List UInt8 := [42, 183, 0, 1, 42, 43, 181, 0, 9, 42, 28, 181, 0, 15, 177]
abbrev dktJ9_init_3_0 : List UInt8 := dkwJ9_init_3_0 ++ []
theorem dksJ9_init_3_0 : cJ9_init_3.data.toList.drop 0 = dktJ9_init_3_0 := by decide +kernel
theorem dJ9_init_3_0 : decode cJ9_init_3 0 = .ok (.aload_n 0, 1) := dk_42 (dk_at dksJ9_init_3_0 0 rfl rfl)
theorem dJ9_init_3_1 : decode cJ9_init_3 1 = .ok (.invokespecial 1, 3) := dk_183 0 1 (dk_at dksJ9_init_3_0 1 rfl rfl)
theorem dJ9_init_3_4 : decode cJ9_init_3 4 = .ok (.aload_n 0, 1) := dk_42 (dk_at dksJ9_init_3_0 4 rfl rfl)
theorem dJ9_init_3_5 : decode cJ9_init_3 5 = .ok (.aload_n 1, 1) := dk_43 (dk_at dksJ9_init_3_0 5 rfl rfl)
theorem dJ9_init_3_6 : decode cJ9_init_3 6 = .ok (.putfield 9, 3) := dk_181 0 9 (dk_at dksJ9_init_3_0 6 rfl rfl)
theorem dJ9_init_3_9 : decode cJ9_init_3 9 = .ok (.aload_n 0, 1) := dk_42 (dk_at dksJ9_init_3_0 9 rfl rfl)
theorem dJ9_init_3_10 : decode cJ9_init_3 10 = .ok (.iload_n 2, 1) := dk_28 (dk_at dksJ9_init_3_0 10 rfl rfl)
theorem dJ9_init_3_11 : decode cJ9_init_3 11 = .ok (.putfield 15, 3) := dk_181 0 15 (dk_at dksJ9_init_3_0 11 rfl rfl)
theorem dJ9_init_3_14 : decode cJ9_init_3 14 = .ok (.return_, 1) := dk_177 (dk_at dksJ9_init_3_0 14 rfl rfl)
abbrev cJ9_equals : ByteArray := prog_35_method_66_code
def yJ9_equals : MethodName := ⟨RJ9, "equals", "(Ljava/lang/Object;)Z"⟩
def dkwJ9_equals_2 : List UInt8 := [184, 2, 29, 153, 0, 7, 4, 167, 0, 4, 3, 172]
abbrev dktJ9_equals_2 : List UInt8 := dkwJ9_equals_2 ++ []
def dkwJ9_equals_1 : List UInt8 := [153, 0, 14, 42, 180, 0, 15, 44, 180, 0, 15, 160, 0, 21, 42, 180, 0, 9, 44, 180, 0, 9]
abbrev dktJ9_equals_1 : List UInt8 := dkwJ9_equals_1 ++ dktJ9_equals_2
def dkwJ9_equals_0 : List UInt8 := [42, 43, 166, 0, 5, 4, 172, 43, 193, 0, 10, 153, 0, 43, 43, 192, 0, 10, 77, 178, 0, 38]
abbrev dktJ9_equals_0 : List UInt8 := dkwJ9_equals_0 ++ dktJ9_equals_1
theorem dksJ9_equals_0 : cJ9_equals.data.toList.drop 0 = dktJ9_equals_0 := by decide +kernel
theorem dksJ9_equals_1 : cJ9_equals.data.toList.drop 22 = dktJ9_equals_1 := dk_seg dksJ9_equals_0 22 rfl rfl
theorem dksJ9_equals_2 : cJ9_equals.data.toList.drop 44 = dktJ9_equals_2 := dk_seg dksJ9_equals_1 22 rfl rfl
theorem dJ9_equals_0 : decode cJ9_equals 0 = .ok (.aload_n 0, 1) := dk_42 (dk_at dksJ9_equals_0 0 rfl rfl)
theorem dJ9_equals_1 : decode cJ9_equals 1 = .ok (.aload_n 1, 1) := dk_43 (dk_at dksJ9_equals_0 1 rfl rfl)
theorem dJ9_equals_2 : decode cJ9_equals 2 = .ok (.if_acmp .ne 5, 3) := dk_166 0 5 (dk_at dksJ9_equals_0 2 rfl rfl)
theorem dJ9_equals_5 : decode cJ9_equals 5 = .ok (.iconst 1, 1) := dk_4 (dk_at dksJ9_equals_0 5 rfl rfl)
theorem dJ9_equals_6 : decode cJ9_equals 6 = .ok (.ireturn, 1) := dk_172 (dk_at dksJ9_equals_0 6 rfl rfl)
theorem dJ9_equals_7 : decode cJ9_equals 7 = .ok (.aload_n 1, 1) := dk_43 (dk_at dksJ9_equals_0 7 rfl rfl)
theorem dJ9_equals_8 : decode cJ9_equals 8 = .ok (.instanceof 10, 3) := dk_193 0 10 (dk_at dksJ9_equals_0 8 rfl rfl)
theorem dJ9_equals_11 : decode cJ9_equals 11 = .ok (.ifCond .eq 43, 3) := dk_153 0 43 (dk_at dksJ9_equals_0 11 rfl rfl)
theorem dJ9_equals_14 : decode cJ9_equals 14 = .ok (.aload_n 1, 1) := dk_43 (dk_at dksJ9_equals_0 14 rfl rfl)
theorem dJ9_equals_15 : decode cJ9_equals 15 = .ok (.checkcast 10, 3) := dk_192 0 10 (dk_at dksJ9_equals_0 15 rfl rfl)
theorem dJ9_equals_18 : decode cJ9_equals 18 = .ok (.astore_n 2, 1) := dk_77 (dk_at dksJ9_equals_0 18 rfl rfl)
theorem dJ9_equals_19 : decode cJ9_equals 19 = .ok (.getstatic 38, 3) := dk_178 0 38 (dk_at dksJ9_equals_0 19 rfl rfl)
theorem dJ9_equals_22 : decode cJ9_equals 22 = .ok (.ifCond .eq 14, 3) := dk_153 0 14 (dk_at dksJ9_equals_1 0 rfl rfl)
theorem dJ9_equals_25 : decode cJ9_equals 25 = .ok (.aload_n 0, 1) := dk_42 (dk_at dksJ9_equals_1 3 rfl rfl)
theorem dJ9_equals_26 : decode cJ9_equals 26 = .ok (.getfield 15, 3) := dk_180 0 15 (dk_at dksJ9_equals_1 4 rfl rfl)
theorem dJ9_equals_29 : decode cJ9_equals 29 = .ok (.aload_n 2, 1) := dk_44 (dk_at dksJ9_equals_1 7 rfl rfl)
theorem dJ9_equals_30 : decode cJ9_equals 30 = .ok (.getfield 15, 3) := dk_180 0 15 (dk_at dksJ9_equals_1 8 rfl rfl)
theorem dJ9_equals_33 : decode cJ9_equals 33 = .ok (.if_icmp .ne 21, 3) := dk_160 0 21 (dk_at dksJ9_equals_1 11 rfl rfl)
theorem dJ9_equals_36 : decode cJ9_equals 36 = .ok (.aload_n 0, 1) := dk_42 (dk_at dksJ9_equals_1 14 rfl rfl)
theorem dJ9_equals_37 : decode cJ9_equals 37 = .ok (.getfield 9, 3) := dk_180 0 9 (dk_at dksJ9_equals_1 15 rfl rfl)
theorem dJ9_equals_40 : decode cJ9_equals 40 = .ok (.aload_n 2, 1) := dk_44 (dk_at dksJ9_equals_1 18 rfl rfl)
theorem dJ9_equals_41 : decode cJ9_equals 41 = .ok (.getfield 9, 3) := dk_180 0 9 (dk_at dksJ9_equals_1 19 rfl rfl)
theorem dJ9_equals_44 : decode cJ9_equals 44 = .ok (.invokestatic 541, 3) := dk_184 2 29 (dk_at dksJ9_equals_2 0 rfl rfl)
theorem dJ9_equals_47 : decode cJ9_equals 47 = .ok (.ifCond .eq 7, 3) := dk_153 0 7 (dk_at dksJ9_equals_2 3 rfl rfl)
theorem dJ9_equals_50 : decode cJ9_equals 50 = .ok (.iconst 1, 1) := dk_4 (dk_at dksJ9_equals_2 6 rfl rfl)
theorem dJ9_equals_51 : decode cJ9_equals 51 = .ok (.goto 4, 3) := dk_167 0 4 (dk_at dksJ9_equals_2 7 rfl rfl)
theorem dJ9_equals_54 : decode cJ9_equals 54 = .ok (.iconst 0, 1) := dk_3 (dk_at dksJ9_equals_2 10 rfl rfl)
theorem dJ9_equals_55 : decode cJ9_equals 55 = .ok (.ireturn, 1) := dk_172 (dk_at dksJ9_equals_2 11 rfl rfl)
abbrev cJ9_charAt : ByteArray := prog_35_method_56_code
def yJ9_charAt : MethodName := ⟨RJ9, "charAt", "(I)C"⟩
def dkwJ9_charAt_1 : List UInt8 := [172]
abbrev dktJ9_charAt_1 : List UInt8 := dkwJ9_charAt_1 ++ []
def dkwJ9_charAt_0 : List UInt8 := [42, 182, 1, 236, 153, 0, 12, 42, 180, 0, 9, 27, 184, 1, 239, 172, 42, 180, 0, 9, 27, 184, 1, 242]
abbrev dktJ9_charAt_0 : List UInt8 := dkwJ9_charAt_0 ++ dktJ9_charAt_1
theorem dksJ9_charAt_0 : cJ9_charAt.data.toList.drop 0 = dktJ9_charAt_0 := by decide +kernel
theorem dksJ9_charAt_1 : cJ9_charAt.data.toList.drop 24 = dktJ9_charAt_1 := dk_seg dksJ9_charAt_0 24 rfl rfl
theorem dJ9_charAt_0 : decode cJ9_charAt 0 = .ok (.aload_n 0, 1) := dk_42 (dk_at dksJ9_charAt_0 0 rfl rfl)
theorem dJ9_charAt_1 : decode cJ9_charAt 1 = .ok (.invokevirtual 492, 3) := dk_182 1 236 (dk_at dksJ9_charAt_0 1 rfl rfl)
theorem dJ9_charAt_4 : decode cJ9_charAt 4 = .ok (.ifCond .eq 12, 3) := dk_153 0 12 (dk_at dksJ9_charAt_0 4 rfl rfl)
theorem dJ9_charAt_7 : decode cJ9_charAt 7 = .ok (.aload_n 0, 1) := dk_42 (dk_at dksJ9_charAt_0 7 rfl rfl)
theorem dJ9_charAt_8 : decode cJ9_charAt 8 = .ok (.getfield 9, 3) := dk_180 0 9 (dk_at dksJ9_charAt_0 8 rfl rfl)
theorem dJ9_charAt_11 : decode cJ9_charAt 11 = .ok (.iload_n 1, 1) := dk_27 (dk_at dksJ9_charAt_0 11 rfl rfl)
theorem dJ9_charAt_12 : decode cJ9_charAt 12 = .ok (.invokestatic 495, 3) := dk_184 1 239 (dk_at dksJ9_charAt_0 12 rfl rfl)
theorem dJ9_charAt_15 : decode cJ9_charAt 15 = .ok (.ireturn, 1) := dk_172 (dk_at dksJ9_charAt_0 15 rfl rfl)
theorem dJ9_charAt_16 : decode cJ9_charAt 16 = .ok (.aload_n 0, 1) := dk_42 (dk_at dksJ9_charAt_0 16 rfl rfl)
theorem dJ9_charAt_17 : decode cJ9_charAt 17 = .ok (.getfield 9, 3) := dk_180 0 9 (dk_at dksJ9_charAt_0 17 rfl rfl)
theorem dJ9_charAt_20 : decode cJ9_charAt 20 = .ok (.iload_n 1, 1) := dk_27 (dk_at dksJ9_charAt_0 20 rfl rfl)
theorem dJ9_charAt_21 : decode cJ9_charAt 21 = .ok (.invokestatic 498, 3) := dk_184 1 242 (dk_at dksJ9_charAt_0 21 rfl rfl)
theorem dJ9_charAt_24 : decode cJ9_charAt 24 = .ok (.ireturn, 1) := dk_172 (dk_at dksJ9_charAt_1 0 rfl rfl)
abbrev cJ9_isLatin1 : ByteArray := prog_35_method_154_code
def yJ9_isLatin1 : MethodName := ⟨RJ9, "isLatin1", "()Z"⟩
def dkwJ9_isLatin1_0 : List UInt8 := [178, 0, 38, 153, 0, 14, 42, 180, 0, 15, 154, 0, 7, 4, 167, 0, 4, 3, 172]
abbrev dktJ9_isLatin1_0 : List UInt8 := dkwJ9_isLatin1_0 ++ []
theorem dksJ9_isLatin1_0 : cJ9_isLatin1.data.toList.drop 0 = dktJ9_isLatin1_0 := by decide +kernel
theorem dJ9_isLatin1_0 : decode cJ9_isLatin1 0 = .ok (.getstatic 38, 3) := dk_178 0 38 (dk_at dksJ9_isLatin1_0 0 rfl rfl)
theorem dJ9_isLatin1_3 : decode cJ9_isLatin1 3 = .ok (.ifCond .eq 14, 3) := dk_153 0 14 (dk_at dksJ9_isLatin1_0 3 rfl rfl)
theorem dJ9_isLatin1_6 : decode cJ9_isLatin1 6 = .ok (.aload_n 0, 1) := dk_42 (dk_at dksJ9_isLatin1_0 6 rfl rfl)
theorem dJ9_isLatin1_7 : decode cJ9_isLatin1 7 = .ok (.getfield 15, 3) := dk_180 0 15 (dk_at dksJ9_isLatin1_0 7 rfl rfl)
theorem dJ9_isLatin1_10 : decode cJ9_isLatin1 10 = .ok (.ifCond .ne 7, 3) := dk_154 0 7 (dk_at dksJ9_isLatin1_0 10 rfl rfl)
theorem dJ9_isLatin1_13 : decode cJ9_isLatin1 13 = .ok (.iconst 1, 1) := dk_4 (dk_at dksJ9_isLatin1_0 13 rfl rfl)
theorem dJ9_isLatin1_14 : decode cJ9_isLatin1 14 = .ok (.goto 4, 3) := dk_167 0 4 (dk_at dksJ9_isLatin1_0 14 rfl rfl)
theorem dJ9_isLatin1_17 : decode cJ9_isLatin1 17 = .ok (.iconst 0, 1) := dk_3 (dk_at dksJ9_isLatin1_0 17 rfl rfl)
theorem dJ9_isLatin1_18 : decode cJ9_isLatin1 18 = .ok (.ireturn, 1) := dk_172 (dk_at dksJ9_isLatin1_0 18 rfl rfl)
theorem q117 : (Jvm.Cond.initialized "java/lang/String") ∈ lw_all := lw_g (lw_at lw_m1 12 rfl) rfl
theorem q228 : (Jvm.Cond.laysStatic "java/lang/String" "COMPACT_STRINGS" "Z") ∈ lw_tbl := lw_at lw_m1 123 rfl
theorem q238 : (Jvm.Cond.fieldLink "java/lang/String" (1048 : Nat) "java/lang/AbstractStringBuilder" "maybeLatin1" "Z") ∈ lw_all := lw_g (lw_at lw_m1 133 rfl) rfl
theorem q313 : (Jvm.Cond.static ({ cls := "java/lang/String", name := "checkBoundsBeginEnd", desc := "(III)V" } : Jvm.MethodName)) ∈ lw_all := lw_g (lw_at lw_m1 208 rfl) rfl
theorem q314 : (Jvm.Cond.code ({ cls := "java/lang/String", name := "checkBoundsBeginEnd", desc := "(III)V" } : Jvm.MethodName) prog_35_method_158_code (3 : Nat) (Option.none : Option Jvm.ClassFile.FieldType)) ∈ lw_all := lw_g (lw_at lw_m1 209 rfl) rfl
theorem q315 : (Jvm.Cond.fieldLink "java/lang/String" (1053 : Nat) "jdk/internal/util/Preconditions" "SIOOBE_FORMATTER" "Ljava/util/function/BiFunction;") ∈ lw_all := lw_g (lw_at lw_m1 210 rfl) rfl
theorem q317 : (Jvm.Cond.methodLink "java/lang/String" (1062 : Nat) ({ cls := "jdk/internal/util/Preconditions", name := "checkFromToIndex", desc := "(IIILjava/util/function/BiFunction;)I" } : Jvm.MethodName)) ∈ lw_all := lw_g (lw_at lw_m1 212 rfl) rfl
theorem q330 : (Jvm.Cond.instanceMethod ({ cls := "java/lang/String", name := "length", desc := "()I" } : Jvm.MethodName)) ∈ lw_all := lw_g (lw_at lw_m1 225 rfl) rfl
theorem q331 : (Jvm.Cond.selects "java/lang/String" ({ cls := "java/lang/String", name := "length", desc := "()I" } : Jvm.MethodName) ({ cls := "java/lang/String", name := "length", desc := "()I" } : Jvm.MethodName)) ∈ lw_all := lw_g (lw_at lw_m1 226 rfl) rfl
theorem q332 : (Jvm.Cond.code ({ cls := "java/lang/String", name := "length", desc := "()I" } : Jvm.MethodName) prog_35_method_54_code (1 : Nat) (Option.some Jvm.ClassFile.FieldType.int)) ∈ lw_all := lw_g (lw_at lw_m1 227 rfl) rfl
theorem q333 : (Jvm.Cond.methodLink "java/lang/String" (335 : Nat) ({ cls := "java/lang/String", name := "coder", desc := "()B" } : Jvm.MethodName)) ∈ lw_all := lw_g (lw_at lw_m1 228 rfl) rfl
theorem q334 : (Jvm.Cond.instanceMethod ({ cls := "java/lang/String", name := "coder", desc := "()B" } : Jvm.MethodName)) ∈ lw_all := lw_g (lw_at lw_m1 229 rfl) rfl
theorem q335 : (Jvm.Cond.selects "java/lang/String" ({ cls := "java/lang/String", name := "coder", desc := "()B" } : Jvm.MethodName) ({ cls := "java/lang/String", name := "coder", desc := "()B" } : Jvm.MethodName)) ∈ lw_all := lw_g (lw_at lw_m1 230 rfl) rfl
theorem q336 : (Jvm.Cond.code ({ cls := "java/lang/String", name := "coder", desc := "()B" } : Jvm.MethodName) prog_35_method_152_code (1 : Nat) (Option.some Jvm.ClassFile.FieldType.byte)) ∈ lw_all := lw_g (lw_at lw_m1 231 rfl) rfl
theorem q337 : (Jvm.Cond.fieldLink "java/lang/String" (38 : Nat) "java/lang/String" "COMPACT_STRINGS" "Z") ∈ lw_all := lw_g (lw_at lw_m1 232 rfl) rfl
theorem q361 : (Jvm.Cond.static ({ cls := "java/lang/String", name := "checkBoundsOffCount", desc := "(III)I" } : Jvm.MethodName)) ∈ lw_all := lw_g (lw_at lw_m2 16 rfl) rfl
theorem q362 : (Jvm.Cond.code ({ cls := "java/lang/String", name := "checkBoundsOffCount", desc := "(III)I" } : Jvm.MethodName) prog_35_method_157_code (3 : Nat) (Option.some Jvm.ClassFile.FieldType.int)) ∈ lw_all := lw_g (lw_at lw_m2 17 rfl) rfl
theorem q363 : (Jvm.Cond.methodLink "java/lang/String" (1065 : Nat) ({ cls := "jdk/internal/util/Preconditions", name := "checkFromIndexSize", desc := "(IIILjava/util/function/BiFunction;)I" } : Jvm.MethodName)) ∈ lw_all := lw_g (lw_at lw_m2 18 rfl) rfl
theorem q367 : (Jvm.Cond.instanceMethod ({ cls := "java/lang/String", name := "getBytes", desc := "([BIB)V" } : Jvm.MethodName)) ∈ lw_all := lw_g (lw_at lw_m2 22 rfl) rfl
theorem q368 : (Jvm.Cond.selects "java/lang/String" ({ cls := "java/lang/String", name := "getBytes", desc := "([BIB)V" } : Jvm.MethodName) ({ cls := "java/lang/String", name := "getBytes", desc := "([BIB)V" } : Jvm.MethodName)) ∈ lw_all := lw_g (lw_at lw_m2 23 rfl) rfl
theorem q369 : (Jvm.Cond.code ({ cls := "java/lang/String", name := "getBytes", desc := "([BIB)V" } : Jvm.MethodName) prog_35_method_147_code (4 : Nat) (Option.none : Option Jvm.ClassFile.FieldType)) ∈ lw_all := lw_g (lw_at lw_m2 24 rfl) rfl
theorem q370 : (Jvm.Cond.methodLink "java/lang/String" (212 : Nat) ({ cls := "java/lang/System", name := "arraycopy", desc := "(Ljava/lang/Object;ILjava/lang/Object;II)V" } : Jvm.MethodName)) ∈ lw_all := lw_g (lw_at lw_m2 25 rfl) rfl
theorem q371 : (Jvm.Cond.methodLink "java/lang/String" (106 : Nat) ({ cls := "java/lang/StringLatin1", name := "inflate", desc := "([BI[BII)V" } : Jvm.MethodName)) ∈ lw_all := lw_g (lw_at lw_m2 26 rfl) rfl
theorem q402 : (Jvm.Cond.instantiable "java/lang/String" (4 : Nat)) ∈ lw_all := lw_g (lw_at lw_m2 57 rfl) rfl
theorem q404 : (Jvm.Cond.instanceMethod ({ cls := "java/lang/String", name := "<init>", desc := "(Ljava/lang/StringBuilder;)V" } : Jvm.MethodName)) ∈ lw_all := lw_g (lw_at lw_m2 59 rfl) rfl
theorem q405 : (Jvm.Cond.code ({ cls := "java/lang/String", name := "<init>", desc := "(Ljava/lang/StringBuilder;)V" } : Jvm.MethodName) prog_35_method_53_code (2 : Nat) (Option.none : Option Jvm.ClassFile.FieldType)) ∈ lw_all := lw_g (lw_at lw_m2 60 rfl) rfl
theorem q406 : (Jvm.Cond.methodLink "java/lang/String" (489 : Nat) ({ cls := "java/lang/String", name := "<init>", desc := "(Ljava/lang/AbstractStringBuilder;Ljava/lang/Void;)V" } : Jvm.MethodName)) ∈ lw_all := lw_g (lw_at lw_m2 61 rfl) rfl
theorem q407 : (Jvm.Cond.instanceMethod ({ cls := "java/lang/String", name := "<init>", desc := "(Ljava/lang/AbstractStringBuilder;Ljava/lang/Void;)V" } : Jvm.MethodName)) ∈ lw_all := lw_g (lw_at lw_m2 62 rfl) rfl
theorem q408 : (Jvm.Cond.code ({ cls := "java/lang/String", name := "<init>", desc := "(Ljava/lang/AbstractStringBuilder;Ljava/lang/Void;)V" } : Jvm.MethodName) prog_35_method_150_code (5 : Nat) (Option.none : Option Jvm.ClassFile.FieldType)) ∈ lw_all := lw_g (lw_at lw_m2 63 rfl) rfl
theorem q409 : (Jvm.Cond.methodLink "java/lang/String" (1 : Nat) ({ cls := "java/lang/Object", name := "<init>", desc := "()V" } : Jvm.MethodName)) ∈ lw_all := lw_g (lw_at lw_m2 64 rfl) rfl
theorem q410 : (Jvm.Cond.methodLink "java/lang/String" (552 : Nat) ({ cls := "java/lang/AbstractStringBuilder", name := "getValue", desc := "()[B" } : Jvm.MethodName)) ∈ lw_all := lw_g (lw_at lw_m2 65 rfl) rfl
theorem q415 : (Jvm.Cond.methodLink "java/lang/String" (549 : Nat) ({ cls := "java/lang/AbstractStringBuilder", name := "length", desc := "()I" } : Jvm.MethodName)) ∈ lw_all := lw_g (lw_at lw_m2 70 rfl) rfl
theorem q423 : (Jvm.Cond.methodLink "java/lang/String" (1047 : Nat) ({ cls := "java/lang/AbstractStringBuilder", name := "isLatin1", desc := "()Z" } : Jvm.MethodName)) ∈ lw_all := lw_g (lw_at lw_m2 78 rfl) rfl
theorem q424 : (Jvm.Cond.methodLink "java/lang/String" (54 : Nat) ({ cls := "java/util/Arrays", name := "copyOfRange", desc := "([BII)[B" } : Jvm.MethodName)) ∈ lw_all := lw_g (lw_at lw_m2 79 rfl) rfl
theorem q465 : (Jvm.Cond.methodLink "java/lang/String" (1051 : Nat) ({ cls := "java/lang/StringUTF16", name := "compress", desc := "([BII)[B" } : Jvm.MethodName)) ∈ lw_all := lw_g (lw_at lw_m2 120 rfl) rfl
theorem q475 : (Jvm.Cond.methodLink "java/lang/String" (47 : Nat) ({ cls := "java/lang/StringUTF16", name := "coderFromArrayLen", desc := "([BI)B" } : Jvm.MethodName)) ∈ lw_all := lw_g (lw_at lw_m2 130 rfl) rfl
theorem q478 : (Jvm.Cond.fieldLink "java/lang/String" (9 : Nat) "java/lang/String" "value" "[B") ∈ lw_all := lw_g (lw_at lw_m2 133 rfl) rfl
theorem q479 : (Jvm.Cond.fieldLink "java/lang/String" (15 : Nat) "java/lang/String" "coder" "B") ∈ lw_all := lw_g (lw_at lw_m2 134 rfl) rfl
theorem q480 : (Jvm.Cond.laysFinal "java/lang/String" "java/lang/String" "value" "[B") ∈ lw_all := lw_g (lw_at lw_m2 135 rfl) rfl
theorem q481 : (Jvm.Cond.soleField "java/lang/String" "value") ∈ lw_all := lw_g (lw_at lw_m2 136 rfl) rfl
theorem q482 : (Jvm.Cond.laysFinal "java/lang/String" "java/lang/String" "coder" "B") ∈ lw_all := lw_g (lw_at lw_m2 137 rfl) rfl
theorem q483 : (Jvm.Cond.soleField "java/lang/String" "coder") ∈ lw_all := lw_g (lw_at lw_m2 138 rfl) rfl
theorem q484 : (Jvm.Cond.lays "java/lang/String" "java/lang/String" "hash" "I") ∈ lw_all := lw_g (lw_at lw_m2 139 rfl) rfl
theorem q485 : (Jvm.Cond.soleField "java/lang/String" "hash") ∈ lw_all := lw_g (lw_at lw_m2 140 rfl) rfl
theorem q486 : (Jvm.Cond.lays "java/lang/String" "java/lang/String" "hashIsZero" "Z") ∈ lw_all := lw_g (lw_at lw_m2 141 rfl) rfl
theorem q487 : (Jvm.Cond.soleField "java/lang/String" "hashIsZero") ∈ lw_all := lw_g (lw_at lw_m2 142 rfl) rfl
theorem q488 : (Jvm.Cond.superclass "java/lang/String" "java/lang/Object") ∈ lw_all := lw_g (lw_at lw_m2 143 rfl) rfl
theorem q686 : (Jvm.Cond.selects "java/lang/String" ({ cls := "java/lang/Object", name := "getClass", desc := "()Ljava/lang/Class;" } : Jvm.MethodName) ({ cls := "java/lang/Object", name := "getClass", desc := "()Ljava/lang/Class;" } : Jvm.MethodName)) ∈ lw_all := lw_g (lw_at lw_m3 101 rfl) rfl
theorem q950 : (Jvm.Cond.static ({ cls := "java/lang/String", name := "checkIndex", desc := "(II)V" } : Jvm.MethodName)) ∈ lw_all := lw_g (lw_at lw_m4 125 rfl) rfl
theorem q951 : (Jvm.Cond.code ({ cls := "java/lang/String", name := "checkIndex", desc := "(II)V" } : Jvm.MethodName) prog_35_method_155_code (2 : Nat) (Option.none : Option Jvm.ClassFile.FieldType)) ∈ lw_all := lw_g (lw_at lw_m4 126 rfl) rfl
theorem q952 : (Jvm.Cond.methodLink "java/lang/String" (1059 : Nat) ({ cls := "jdk/internal/util/Preconditions", name := "checkIndex", desc := "(IILjava/util/function/BiFunction;)I" } : Jvm.MethodName)) ∈ lw_all := lw_g (lw_at lw_m4 127 rfl) rfl
theorem q969 : (Jvm.Cond.static ({ cls := "java/lang/String", name := "valueOf", desc := "(C)Ljava/lang/String;" } : Jvm.MethodName)) ∈ lw_all := lw_g (lw_at lw_m4 144 rfl) rfl
theorem q970 : (Jvm.Cond.code ({ cls := "java/lang/String", name := "valueOf", desc := "(C)Ljava/lang/String;" } : Jvm.MethodName) prog_35_method_139_code (1 : Nat) (Option.some (Jvm.ClassFile.FieldType.object "java/lang/String"))) ∈ lw_all := lw_g (lw_at lw_m4 145 rfl) rfl
theorem q971 : (Jvm.Cond.methodLink "java/lang/String" (1015 : Nat) ({ cls := "java/lang/StringLatin1", name := "canEncode", desc := "(C)Z" } : Jvm.MethodName)) ∈ lw_all := lw_g (lw_at lw_m4 146 rfl) rfl
theorem q972 : (Jvm.Cond.classLink "java/lang/String" (10 : Nat) "java/lang/String") ∈ lw_all := lw_g (lw_at lw_m4 147 rfl) rfl
theorem q973 : (Jvm.Cond.methodLink "java/lang/String" (1018 : Nat) ({ cls := "java/lang/StringLatin1", name := "toBytes", desc := "(C)[B" } : Jvm.MethodName)) ∈ lw_all := lw_g (lw_at lw_m4 148 rfl) rfl
theorem q976 : (Jvm.Cond.methodLink "java/lang/String" (209 : Nat) ({ cls := "java/lang/String", name := "<init>", desc := "([BB)V" } : Jvm.MethodName)) ∈ lw_all := lw_g (lw_at lw_m4 151 rfl) rfl
theorem q977 : (Jvm.Cond.instanceMethod ({ cls := "java/lang/String", name := "<init>", desc := "([BB)V" } : Jvm.MethodName)) ∈ lw_all := lw_g (lw_at lw_m4 152 rfl) rfl
theorem q978 : (Jvm.Cond.code ({ cls := "java/lang/String", name := "<init>", desc := "([BB)V" } : Jvm.MethodName) prog_35_method_151_code (3 : Nat) (Option.none : Option Jvm.ClassFile.FieldType)) ∈ lw_all := lw_g (lw_at lw_m4 153 rfl) rfl
theorem q979 : (Jvm.Cond.methodLink "java/lang/String" (1021 : Nat) ({ cls := "java/lang/StringUTF16", name := "toBytes", desc := "(C)[B" } : Jvm.MethodName)) ∈ lw_all := lw_g (lw_at lw_m4 154 rfl) rfl
theorem q1022 : (Jvm.Cond.instanceMethod ({ cls := "java/lang/String", name := "equals", desc := "(Ljava/lang/Object;)Z" } : Jvm.MethodName)) ∈ lw_all := lw_g (lw_at lw_m4 197 rfl) rfl
theorem q1023 : (Jvm.Cond.selects "java/lang/String" ({ cls := "java/lang/String", name := "equals", desc := "(Ljava/lang/Object;)Z" } : Jvm.MethodName) ({ cls := "java/lang/String", name := "equals", desc := "(Ljava/lang/Object;)Z" } : Jvm.MethodName)) ∈ lw_all := lw_g (lw_at lw_m4 198 rfl) rfl
theorem q1024 : (Jvm.Cond.code ({ cls := "java/lang/String", name := "equals", desc := "(Ljava/lang/Object;)Z" } : Jvm.MethodName) prog_35_method_66_code (3 : Nat) (Option.some Jvm.ClassFile.FieldType.boolean)) ∈ lw_all := lw_g (lw_at lw_m4 199 rfl) rfl
theorem q1025 : (Jvm.Cond.methodLink "java/lang/String" (541 : Nat) ({ cls := "java/lang/StringLatin1", name := "equals", desc := "([B[B)Z" } : Jvm.MethodName)) ∈ lw_all := lw_g (lw_at lw_m4 200 rfl) rfl
theorem q1149 : (Jvm.Cond.instanceMethod ({ cls := "java/lang/String", name := "charAt", desc := "(I)C" } : Jvm.MethodName)) ∈ lw_all := lw_g (lw_at lw_m5 84 rfl) rfl
theorem q1150 : (Jvm.Cond.selects "java/lang/String" ({ cls := "java/lang/String", name := "charAt", desc := "(I)C" } : Jvm.MethodName) ({ cls := "java/lang/String", name := "charAt", desc := "(I)C" } : Jvm.MethodName)) ∈ lw_all := lw_g (lw_at lw_m5 85 rfl) rfl
theorem q1151 : (Jvm.Cond.code ({ cls := "java/lang/String", name := "charAt", desc := "(I)C" } : Jvm.MethodName) prog_35_method_56_code (2 : Nat) (Option.some Jvm.ClassFile.FieldType.char)) ∈ lw_all := lw_g (lw_at lw_m5 86 rfl) rfl
theorem q1152 : (Jvm.Cond.methodLink "java/lang/String" (492 : Nat) ({ cls := "java/lang/String", name := "isLatin1", desc := "()Z" } : Jvm.MethodName)) ∈ lw_all := lw_g (lw_at lw_m5 87 rfl) rfl
theorem q1153 : (Jvm.Cond.instanceMethod ({ cls := "java/lang/String", name := "isLatin1", desc := "()Z" } : Jvm.MethodName)) ∈ lw_all := lw_g (lw_at lw_m5 88 rfl) rfl
theorem q1154 : (Jvm.Cond.selects "java/lang/String" ({ cls := "java/lang/String", name := "isLatin1", desc := "()Z" } : Jvm.MethodName) ({ cls := "java/lang/String", name := "isLatin1", desc := "()Z" } : Jvm.MethodName)) ∈ lw_all := lw_g (lw_at lw_m5 89 rfl) rfl
theorem q1155 : (Jvm.Cond.code ({ cls := "java/lang/String", name := "isLatin1", desc := "()Z" } : Jvm.MethodName) prog_35_method_154_code (1 : Nat) (Option.some Jvm.ClassFile.FieldType.boolean)) ∈ lw_all := lw_g (lw_at lw_m5 90 rfl) rfl
theorem q1156 : (Jvm.Cond.methodLink "java/lang/String" (495 : Nat) ({ cls := "java/lang/StringLatin1", name := "charAt", desc := "([BI)C" } : Jvm.MethodName)) ∈ lw_all := lw_g (lw_at lw_m5 91 rfl) rfl
theorem q1160 : (Jvm.Cond.methodLink "java/lang/String" (498 : Nat) ({ cls := "java/lang/StringUTF16", name := "charAt", desc := "([BI)C" } : Jvm.MethodName)) ∈ lw_all := lw_g (lw_at lw_m5 95 rfl) rfl
theorem q2348 : (Jvm.Cond.castable "java/lang/String" "java/lang/Object") ∈ lw_tbl := lw_at lw_m10 83 rfl
theorem in_J9 : ∀ w ∈ wsJ90, w ∈ lw_all := lw_in wsJ90 [480, 482, 484, 486] (by decide +kernel) (by decide +kernel)

theorem q136 : (Jvm.Cond.initialized "ApartBench$Sort") ∈ lw_all := lw_g (lw_at lw_m1 31 rfl) rfl
set_option maxRecDepth 100000
theorem q677 : (Jvm.Cond.selects "ApartBench$Sort" ({ cls := "java/lang/Object", name := "getClass", desc := "()Ljava/lang/Class;" } : Jvm.MethodName) ({ cls := "java/lang/Object", name := "getClass", desc := "()Ljava/lang/Class;" } : Jvm.MethodName)) ∈ lw_all := lw_g (lw_at lw_m3 92 rfl) rfl
theorem q924 : (Jvm.Cond.laysStatic "ApartBench$Sort" "END" "LApartBench$Sort;") ∈ lw_tbl := lw_at lw_m4 99 rfl
theorem q955 : (Jvm.Cond.laysStatic "ApartBench$Sort" "WORD" "LApartBench$Sort;") ∈ lw_tbl := lw_at lw_m4 130 rfl
theorem q960 : (Jvm.Cond.laysStatic "ApartBench$Sort" "NUMBER" "LApartBench$Sort;") ∈ lw_tbl := lw_at lw_m4 135 rfl
theorem q965 : (Jvm.Cond.laysStatic "ApartBench$Sort" "SIGN" "LApartBench$Sort;") ∈ lw_tbl := lw_at lw_m4 140 rfl
theorem q967 : (Jvm.Cond.laysStatic "ApartBench$Sort" "BAD" "LApartBench$Sort;") ∈ lw_tbl := lw_at lw_m4 142 rfl
theorem q2360 : (Jvm.Cond.castable "ApartBench$Sort" "java/lang/Object") ∈ lw_tbl := lw_at lw_m10 95 rfl

theorem q286 : (Jvm.Cond.sameMethod "[B" "java/lang/Object" "clone" "()Ljava/lang/Object;") ∈ lw_all := lw_g (lw_at lw_m1 181 rfl) rfl
set_option maxRecDepth 100000
theorem q289 : (Jvm.Cond.selects "[B" ({ cls := "[B", name := "clone", desc := "()Ljava/lang/Object;" } : Jvm.MethodName) ({ cls := "java/lang/Object", name := "clone", desc := "()Ljava/lang/Object;" } : Jvm.MethodName)) ∈ lw_all := lw_g (lw_at lw_m1 184 rfl) rfl
theorem q290 : (Jvm.Cond.castable "[B" "java/lang/Cloneable") ∈ lw_tbl := lw_at lw_m1 185 rfl
theorem q2376 : (Jvm.Cond.castable "[B" "java/lang/Object") ∈ lw_tbl := lw_at lw_m10 111 rfl

theorem q2375 : (Jvm.Cond.castable "[I" "java/lang/Object") ∈ lw_tbl := lw_at lw_m10 110 rfl
set_option maxRecDepth 100000

theorem q2380 : (Jvm.Cond.castable "[J" "java/lang/Object") ∈ lw_tbl := lw_at lw_m10 115 rfl
set_option maxRecDepth 100000

theorem q514 : (Jvm.Cond.sameMethod "[LApartBench$Value;" "java/lang/Object" "clone" "()Ljava/lang/Object;") ∈ lw_all := lw_g (lw_at lw_m2 169 rfl) rfl
set_option maxRecDepth 100000
theorem q515 : (Jvm.Cond.selects "[LApartBench$Value;" ({ cls := "[LApartBench$Value;", name := "clone", desc := "()Ljava/lang/Object;" } : Jvm.MethodName) ({ cls := "java/lang/Object", name := "clone", desc := "()Ljava/lang/Object;" } : Jvm.MethodName)) ∈ lw_all := lw_g (lw_at lw_m2 170 rfl) rfl
theorem q516 : (Jvm.Cond.castable "[LApartBench$Value;" "java/lang/Cloneable") ∈ lw_tbl := lw_at lw_m2 171 rfl
theorem q2377 : (Jvm.Cond.castable "[LApartBench$Value;" "java/lang/Object") ∈ lw_tbl := lw_at lw_m10 112 rfl

theorem q2371 : (Jvm.Cond.sameMethod "[Ljava/lang/Object;" "java/lang/Object" "getClass" "()Ljava/lang/Class;") ∈ lw_all := lw_g (lw_at lw_m10 106 rfl) rfl
set_option maxRecDepth 100000
theorem q2372 : (Jvm.Cond.selects "[Ljava/lang/Object;" ({ cls := "java/lang/Object", name := "getClass", desc := "()Ljava/lang/Class;" } : Jvm.MethodName) ({ cls := "java/lang/Object", name := "getClass", desc := "()Ljava/lang/Class;" } : Jvm.MethodName)) ∈ lw_all := lw_g (lw_at lw_m10 107 rfl) rfl
theorem q2374 : (Jvm.Cond.castable "[Ljava/lang/Object;" "java/lang/Object") ∈ lw_tbl := lw_at lw_m10 109 rfl

theorem q2379 : (Jvm.Cond.castable "[Ljava/lang/String;" "java/lang/Object") ∈ lw_tbl := lw_at lw_m10 114 rfl
set_option maxRecDepth 100000

theorem q2378 : (Jvm.Cond.castable "[Z" "java/lang/Object") ∈ lw_tbl := lw_at lw_m10 113 rfl
set_option maxRecDepth 100000

theorem q125 : (Jvm.Cond.initialized "java/lang/Number") ∈ lw_all := lw_g (lw_at lw_m1 20 rfl) rfl
set_option maxRecDepth 100000

theorem q122 : (Jvm.Cond.initialized "java/lang/System") ∈ lw_all := lw_g (lw_at lw_m1 17 rfl) rfl
set_option maxRecDepth 100000
theorem q296 : (Jvm.Cond.static ({ cls := "java/lang/System", name := "arraycopy", desc := "(Ljava/lang/Object;ILjava/lang/Object;II)V" } : Jvm.MethodName)) ∈ lw_all := lw_g (lw_at lw_m1 191 rfl) rfl
theorem q297 : (Jvm.Cond.native ({ cls := "java/lang/System", name := "arraycopy", desc := "(Ljava/lang/Object;ILjava/lang/Object;II)V" } : Jvm.MethodName)) ∈ lw_all := lw_g (lw_at lw_m1 192 rfl) rfl

theorem q174 : (Jvm.Cond.arrayOver (Jvm.ClassFile.FieldType.object "java/lang/Object")) ∈ lw_tbl := lw_at lw_m1 69 rfl
set_option maxRecDepth 100000
theorem q249 : (Jvm.Cond.arrayClass Jvm.ClassFile.FieldType.int) ∈ lw_all := lw_g (lw_at lw_m1 144 rfl) rfl
theorem q250 : (Jvm.Cond.arrayClass Jvm.ClassFile.FieldType.byte) ∈ lw_all := lw_g (lw_at lw_m1 145 rfl) rfl
theorem q517 : (Jvm.Cond.arrayOver (Jvm.ClassFile.FieldType.object "ApartBench$Value")) ∈ lw_tbl := lw_at lw_m2 172 rfl
theorem q730 : (Jvm.Cond.arrayClass Jvm.ClassFile.FieldType.boolean) ∈ lw_all := lw_g (lw_at lw_m3 145 rfl) rfl
theorem q1719 : (Jvm.Cond.arrayOver (Jvm.ClassFile.FieldType.object "java/lang/String")) ∈ lw_tbl := lw_at lw_m7 174 rfl
theorem q2332 : (Jvm.Cond.arrayClass Jvm.ClassFile.FieldType.long) ∈ lw_all := lw_g (lw_at lw_m10 67 rfl) rfl

/-! the law's own entry -/
set_option maxRecDepth 100000
abbrev cL_law : ByteArray := code
def dkwL_law_90 : List UInt8 := [167, 247, 113, 4, 172]
abbrev dktL_law_90 : List UInt8 := dkwL_law_90 ++ []
def dkwL_law_89 : List UInt8 := [182, 0, 215, 167, 0, 16, 43, 182, 0, 216, 44, 182, 0, 220, 159, 0, 5, 3, 172, 132, 4, 6]
abbrev dktL_law_89 : List UInt8 := dkwL_law_89 ++ dktL_law_90
def dkwL_law_88 : List UInt8 := [154, 0, 15, 45, 3, 47, 21, 6, 133, 148, 153, 0, 5, 3, 172, 167, 0, 27, 43, 182, 0, 212, 44]
abbrev dktL_law_88 : List UInt8 := dkwL_law_88 ++ dktL_law_89
def dkwL_law_87 : List UInt8 := [21, 4, 6, 96, 46, 182, 0, 211, 54, 6, 44, 182, 0, 114, 21, 5, 159, 0, 5, 3, 172, 21, 5]
abbrev dktL_law_87 : List UInt8 := dkwL_law_87 ++ dktL_law_88
def dkwL_law_86 : List UInt8 := [6, 96, 46, 45, 184, 0, 209, 54, 5, 44, 42, 21, 4, 4, 96, 46, 42, 21, 4, 5, 96, 46, 42]
abbrev dktL_law_86 : List UInt8 := dkwL_law_86 ++ dktL_law_87
def dkwL_law_85 : List UInt8 := [153, 0, 5, 3, 172, 167, 0, 107, 43, 42, 21, 4, 4, 96, 46, 42, 21, 4, 5, 96, 46, 42, 21, 4]
abbrev dktL_law_85 : List UInt8 := dkwL_law_85 ++ dktL_law_86
def dkwL_law_84 : List UInt8 := [182, 0, 114, 21, 5, 159, 0, 5, 3, 172, 21, 5, 154, 0, 15, 45, 3, 47, 21, 6, 133, 148]
abbrev dktL_law_84 : List UInt8 := dkwL_law_84 ++ dktL_law_85
def dkwL_law_83 : List UInt8 := [184, 0, 206, 54, 5, 44, 42, 21, 4, 4, 96, 46, 42, 21, 4, 5, 96, 46, 182, 0, 208, 54, 6, 44]
abbrev dktL_law_83 : List UInt8 := dkwL_law_83 ++ dktL_law_84
def dkwL_law_82 : List UInt8 := [148, 153, 0, 5, 3, 172, 167, 0, 175, 43, 42, 21, 4, 4, 96, 46, 42, 21, 4, 5, 96, 46, 45]
abbrev dktL_law_82 : List UInt8 := dkwL_law_82 ++ dktL_law_83
def dkwL_law_81 : List UInt8 := [54, 6, 44, 182, 0, 114, 21, 5, 159, 0, 5, 3, 172, 21, 5, 154, 0, 15, 45, 3, 47, 21, 6, 133]
abbrev dktL_law_81 : List UInt8 := dkwL_law_81 ++ dktL_law_82
def dkwL_law_80 : List UInt8 := [46, 45, 184, 0, 203, 54, 5, 44, 42, 21, 4, 4, 96, 46, 42, 21, 4, 5, 96, 46, 182, 0, 205]
abbrev dktL_law_80 : List UInt8 := dkwL_law_80 ++ dktL_law_81
def dkwL_law_79 : List UInt8 := [182, 0, 199, 44, 182, 0, 202, 159, 0, 245, 3, 172, 43, 42, 21, 4, 4, 96, 46, 42, 21, 4, 5, 96]
abbrev dktL_law_79 : List UInt8 := dkwL_law_79 ++ dktL_law_80
def dkwL_law_78 : List UInt8 := [3, 172, 21, 5, 154, 0, 15, 45, 3, 47, 21, 6, 133, 148, 153, 0, 5, 3, 172, 167, 1, 0, 43]
abbrev dktL_law_78 : List UInt8 := dkwL_law_78 ++ dktL_law_79
def dkwL_law_77 : List UInt8 := [96, 46, 153, 0, 7, 4, 167, 0, 4, 3, 182, 0, 198, 54, 6, 44, 182, 0, 114, 21, 5, 159, 0, 5]
abbrev dktL_law_77 : List UInt8 := dkwL_law_77 ++ dktL_law_78
def dkwL_law_76 : List UInt8 := [3, 45, 184, 0, 195, 54, 5, 44, 42, 21, 4, 4, 96, 46, 42, 21, 4, 5, 96, 46, 42, 21, 4, 6]
abbrev dktL_law_76 : List UInt8 := dkwL_law_76 ++ dktL_law_77
def dkwL_law_75 : List UInt8 := [21, 4, 4, 96, 46, 42, 21, 4, 5, 96, 46, 42, 21, 4, 6, 96, 46, 153, 0, 7, 4, 167, 0, 4]
abbrev dktL_law_75 : List UInt8 := dkwL_law_75 ++ dktL_law_76
def dkwL_law_74 : List UInt8 := [172, 21, 5, 154, 0, 15, 45, 3, 47, 21, 6, 133, 148, 153, 0, 5, 3, 172, 167, 1, 96, 43, 42]
abbrev dktL_law_74 : List UInt8 := dkwL_law_74 ++ dktL_law_75
def dkwL_law_73 : List UInt8 := [54, 5, 44, 42, 21, 4, 4, 96, 46, 182, 0, 194, 54, 6, 44, 182, 0, 114, 21, 5, 159, 0, 5, 3]
abbrev dktL_law_73 : List UInt8 := dkwL_law_73 ++ dktL_law_74
def dkwL_law_72 : List UInt8 := [21, 6, 133, 148, 153, 0, 5, 3, 172, 167, 1, 152, 43, 42, 21, 4, 4, 96, 46, 45, 184, 0, 192]
abbrev dktL_law_72 : List UInt8 := dkwL_law_72 ++ dktL_law_73
def dkwL_law_71 : List UInt8 := [182, 0, 191, 54, 6, 44, 182, 0, 114, 21, 5, 159, 0, 5, 3, 172, 21, 5, 154, 0, 15, 45, 3, 47]
abbrev dktL_law_71 : List UInt8 := dkwL_law_71 ++ dktL_law_72
def dkwL_law_70 : List UInt8 := [167, 1, 208, 43, 42, 21, 4, 4, 96, 46, 45, 184, 0, 189, 54, 5, 44, 42, 21, 4, 4, 96, 46]
abbrev dktL_law_70 : List UInt8 := dkwL_law_70 ++ dktL_law_71
def dkwL_law_69 : List UInt8 := [159, 0, 5, 3, 172, 21, 5, 154, 0, 15, 45, 3, 47, 21, 6, 133, 148, 153, 0, 5, 3, 172]
abbrev dktL_law_69 : List UInt8 := dkwL_law_69 ++ dktL_law_70
def dkwL_law_68 : List UInt8 := [184, 0, 186, 54, 5, 44, 42, 21, 4, 4, 96, 46, 182, 0, 188, 54, 6, 44, 182, 0, 114, 21, 5]
abbrev dktL_law_68 : List UInt8 := dkwL_law_68 ++ dktL_law_69
def dkwL_law_67 : List UInt8 := [3, 47, 21, 6, 133, 148, 153, 0, 5, 3, 172, 167, 2, 8, 43, 42, 21, 4, 4, 96, 46, 45]
abbrev dktL_law_67 : List UInt8 := dkwL_law_67 ++ dktL_law_68
def dkwL_law_66 : List UInt8 := [96, 46, 182, 0, 185, 54, 6, 44, 182, 0, 114, 21, 5, 159, 0, 5, 3, 172, 21, 5, 154, 0, 15, 45]
abbrev dktL_law_66 : List UInt8 := dkwL_law_66 ++ dktL_law_67
def dkwL_law_65 : List UInt8 := [46, 42, 21, 4, 5, 96, 46, 45, 184, 0, 183, 54, 5, 44, 42, 21, 4, 4, 96, 46, 42, 21, 4, 5]
abbrev dktL_law_65 : List UInt8 := dkwL_law_65 ++ dktL_law_66
def dkwL_law_64 : List UInt8 := [154, 0, 15, 45, 3, 47, 21, 6, 133, 148, 153, 0, 5, 3, 172, 167, 2, 76, 43, 42, 21, 4, 4, 96]
abbrev dktL_law_64 : List UInt8 := dkwL_law_64 ++ dktL_law_65
def dkwL_law_63 : List UInt8 := [21, 4, 4, 96, 46, 182, 0, 182, 54, 6, 44, 182, 0, 114, 21, 5, 159, 0, 5, 3, 172, 21, 5]
abbrev dktL_law_63 : List UInt8 := dkwL_law_63 ++ dktL_law_64
def dkwL_law_62 : List UInt8 := [153, 0, 5, 3, 172, 167, 2, 132, 43, 42, 21, 4, 4, 96, 46, 45, 184, 0, 180, 54, 5, 44, 42]
abbrev dktL_law_62 : List UInt8 := dkwL_law_62 ++ dktL_law_63
def dkwL_law_61 : List UInt8 := [182, 0, 114, 21, 5, 159, 0, 5, 3, 172, 21, 5, 154, 0, 15, 45, 3, 47, 21, 6, 133, 148]
abbrev dktL_law_61 : List UInt8 := dkwL_law_61 ++ dktL_law_62
def dkwL_law_60 : List UInt8 := [184, 0, 177, 54, 5, 44, 42, 21, 4, 4, 96, 46, 42, 21, 4, 5, 96, 46, 182, 0, 179, 54, 6, 44]
abbrev dktL_law_60 : List UInt8 := dkwL_law_60 ++ dktL_law_61
def dkwL_law_59 : List UInt8 := [153, 0, 5, 3, 172, 167, 2, 200, 43, 42, 21, 4, 4, 96, 46, 42, 21, 4, 5, 96, 46, 45]
abbrev dktL_law_59 : List UInt8 := dkwL_law_59 ++ dktL_law_60
def dkwL_law_58 : List UInt8 := [182, 0, 114, 21, 5, 159, 0, 5, 3, 172, 21, 5, 154, 0, 15, 45, 3, 47, 21, 6, 133, 148]
abbrev dktL_law_58 : List UInt8 := dkwL_law_58 ++ dktL_law_59
def dkwL_law_57 : List UInt8 := [21, 4, 4, 96, 46, 45, 184, 0, 174, 54, 5, 44, 42, 21, 4, 4, 96, 46, 182, 0, 176, 54, 6, 44]
abbrev dktL_law_57 : List UInt8 := dkwL_law_57 ++ dktL_law_58
def dkwL_law_56 : List UInt8 := [153, 0, 5, 3, 172, 167, 3, 13, 43, 182, 0, 170, 44, 182, 0, 173, 159, 3, 2, 3, 172, 43, 42]
abbrev dktL_law_56 : List UInt8 := dkwL_law_56 ++ dktL_law_57
def dkwL_law_55 : List UInt8 := [182, 0, 114, 21, 5, 159, 0, 5, 3, 172, 21, 5, 154, 0, 15, 45, 3, 47, 21, 6, 133, 148]
abbrev dktL_law_55 : List UInt8 := dkwL_law_55 ++ dktL_law_56
def dkwL_law_54 : List UInt8 := [21, 4, 4, 96, 46, 42, 21, 4, 5, 96, 46, 42, 21, 4, 6, 96, 46, 182, 0, 169, 54, 6, 44]
abbrev dktL_law_54 : List UInt8 := dkwL_law_54 ++ dktL_law_55
def dkwL_law_53 : List UInt8 := [4, 96, 46, 42, 21, 4, 5, 96, 46, 42, 21, 4, 6, 96, 46, 45, 184, 0, 167, 54, 5, 44, 42]
abbrev dktL_law_53 : List UInt8 := dkwL_law_53 ++ dktL_law_54
def dkwL_law_52 : List UInt8 := [21, 5, 154, 0, 15, 45, 3, 47, 21, 6, 133, 148, 153, 0, 5, 3, 172, 167, 3, 93, 43, 42, 21, 4]
abbrev dktL_law_52 : List UInt8 := dkwL_law_52 ++ dktL_law_53
def dkwL_law_51 : List UInt8 := [96, 46, 42, 21, 4, 6, 96, 46, 182, 0, 166, 54, 6, 44, 182, 0, 114, 21, 5, 159, 0, 5, 3, 172]
abbrev dktL_law_51 : List UInt8 := dkwL_law_51 ++ dktL_law_52
def dkwL_law_50 : List UInt8 := [46, 42, 21, 4, 6, 96, 46, 45, 184, 0, 164, 54, 5, 44, 42, 21, 4, 4, 96, 46, 42, 21, 4, 5]
abbrev dktL_law_50 : List UInt8 := dkwL_law_50 ++ dktL_law_51
def dkwL_law_49 : List UInt8 := [21, 6, 133, 148, 153, 0, 5, 3, 172, 167, 3, 173, 43, 42, 21, 4, 4, 96, 46, 42, 21, 4, 5, 96]
abbrev dktL_law_49 : List UInt8 := dkwL_law_49 ++ dktL_law_50
def dkwL_law_48 : List UInt8 := [182, 0, 163, 54, 6, 44, 182, 0, 114, 21, 5, 159, 0, 5, 3, 172, 21, 5, 154, 0, 15, 45, 3, 47]
abbrev dktL_law_48 : List UInt8 := dkwL_law_48 ++ dktL_law_49
def dkwL_law_47 : List UInt8 := [184, 0, 161, 54, 5, 44, 42, 21, 4, 4, 96, 46, 42, 21, 4, 5, 96, 46, 42, 21, 4, 6, 96, 46]
abbrev dktL_law_47 : List UInt8 := dkwL_law_47 ++ dktL_law_48
def dkwL_law_46 : List UInt8 := [167, 3, 253, 43, 42, 21, 4, 4, 96, 46, 42, 21, 4, 5, 96, 46, 42, 21, 4, 6, 96, 46, 45]
abbrev dktL_law_46 : List UInt8 := dkwL_law_46 ++ dktL_law_47
def dkwL_law_45 : List UInt8 := [21, 5, 154, 0, 22, 45, 3, 47, 21, 6, 153, 0, 7, 10, 167, 0, 4, 9, 148, 153, 0, 5, 3, 172]
abbrev dktL_law_45 : List UInt8 := dkwL_law_45 ++ dktL_law_46
def dkwL_law_44 : List UInt8 := [153, 0, 7, 4, 167, 0, 4, 3, 182, 0, 160, 54, 6, 44, 182, 0, 114, 21, 5, 159, 0, 5, 3, 172]
abbrev dktL_law_44 : List UInt8 := dkwL_law_44 ++ dktL_law_45
def dkwL_law_43 : List UInt8 := [4, 167, 0, 4, 3, 45, 184, 0, 157, 54, 5, 44, 42, 21, 4, 4, 96, 46, 42, 21, 4, 5, 96, 46]
abbrev dktL_law_43 : List UInt8 := dkwL_law_43 ++ dktL_law_44
def dkwL_law_42 : List UInt8 := [153, 0, 5, 3, 172, 167, 4, 88, 43, 42, 21, 4, 4, 96, 46, 42, 21, 4, 5, 96, 46, 153, 0, 7]
abbrev dktL_law_42 : List UInt8 := dkwL_law_42 ++ dktL_law_43
def dkwL_law_41 : List UInt8 := [182, 0, 114, 21, 5, 159, 0, 5, 3, 172, 21, 5, 154, 0, 15, 45, 3, 47, 21, 6, 133, 148]
abbrev dktL_law_41 : List UInt8 := dkwL_law_41 ++ dktL_law_42
def dkwL_law_40 : List UInt8 := [184, 0, 154, 54, 5, 44, 42, 21, 4, 4, 96, 46, 42, 21, 4, 5, 96, 46, 182, 0, 156, 54, 6, 44]
abbrev dktL_law_40 : List UInt8 := dkwL_law_40 ++ dktL_law_41
def dkwL_law_39 : List UInt8 := [153, 0, 5, 3, 172, 167, 4, 156, 43, 42, 21, 4, 4, 96, 46, 42, 21, 4, 5, 96, 46, 45]
abbrev dktL_law_39 : List UInt8 := dkwL_law_39 ++ dktL_law_40
def dkwL_law_38 : List UInt8 := [182, 0, 114, 21, 5, 159, 0, 5, 3, 172, 21, 5, 154, 0, 15, 45, 3, 47, 21, 6, 133, 148]
abbrev dktL_law_38 : List UInt8 := dkwL_law_38 ++ dktL_law_39
def dkwL_law_37 : List UInt8 := [184, 0, 151, 54, 5, 44, 42, 21, 4, 4, 96, 46, 42, 21, 4, 5, 96, 46, 182, 0, 153, 54, 6, 44]
abbrev dktL_law_37 : List UInt8 := dkwL_law_37 ++ dktL_law_38
def dkwL_law_36 : List UInt8 := [153, 0, 5, 3, 172, 167, 4, 224, 43, 42, 21, 4, 4, 96, 46, 42, 21, 4, 5, 96, 46, 45]
abbrev dktL_law_36 : List UInt8 := dkwL_law_36 ++ dktL_law_37
def dkwL_law_35 : List UInt8 := [182, 0, 114, 21, 5, 159, 0, 5, 3, 172, 21, 5, 154, 0, 15, 45, 3, 47, 21, 6, 133, 148]
abbrev dktL_law_35 : List UInt8 := dkwL_law_35 ++ dktL_law_36
def dkwL_law_34 : List UInt8 := [184, 0, 148, 54, 5, 44, 42, 21, 4, 4, 96, 46, 42, 21, 4, 5, 96, 46, 182, 0, 150, 54, 6, 44]
abbrev dktL_law_34 : List UInt8 := dkwL_law_34 ++ dktL_law_35
def dkwL_law_33 : List UInt8 := [148, 153, 0, 5, 3, 172, 167, 5, 36, 43, 42, 21, 4, 4, 96, 46, 42, 21, 4, 5, 96, 46, 45]
abbrev dktL_law_33 : List UInt8 := dkwL_law_33 ++ dktL_law_34
def dkwL_law_32 : List UInt8 := [54, 6, 44, 182, 0, 114, 21, 5, 159, 0, 5, 3, 172, 21, 5, 154, 0, 15, 45, 3, 47, 21, 6, 133]
abbrev dktL_law_32 : List UInt8 := dkwL_law_32 ++ dktL_law_33
def dkwL_law_31 : List UInt8 := [46, 45, 184, 0, 145, 54, 5, 44, 42, 21, 4, 4, 96, 46, 42, 21, 4, 5, 96, 46, 182, 0, 147]
abbrev dktL_law_31 : List UInt8 := dkwL_law_31 ++ dktL_law_32
def dkwL_law_30 : List UInt8 := [21, 6, 133, 148, 153, 0, 5, 3, 172, 167, 5, 104, 43, 42, 21, 4, 4, 96, 46, 42, 21, 4, 5, 96]
abbrev dktL_law_30 : List UInt8 := dkwL_law_30 ++ dktL_law_31
def dkwL_law_29 : List UInt8 := [182, 0, 144, 54, 6, 44, 182, 0, 114, 21, 5, 159, 0, 5, 3, 172, 21, 5, 154, 0, 15, 45, 3, 47]
abbrev dktL_law_29 : List UInt8 := dkwL_law_29 ++ dktL_law_30
def dkwL_law_28 : List UInt8 := [184, 0, 142, 54, 5, 44, 42, 21, 4, 4, 96, 46, 42, 21, 4, 5, 96, 46, 42, 21, 4, 6, 96, 46]
abbrev dktL_law_28 : List UInt8 := dkwL_law_28 ++ dktL_law_29
def dkwL_law_27 : List UInt8 := [167, 5, 184, 43, 42, 21, 4, 4, 96, 46, 42, 21, 4, 5, 96, 46, 42, 21, 4, 6, 96, 46, 45]
abbrev dktL_law_27 : List UInt8 := dkwL_law_27 ++ dktL_law_28
def dkwL_law_26 : List UInt8 := [159, 0, 5, 3, 172, 21, 5, 154, 0, 15, 45, 3, 47, 21, 6, 133, 148, 153, 0, 5, 3, 172]
abbrev dktL_law_26 : List UInt8 := dkwL_law_26 ++ dktL_law_27
def dkwL_law_25 : List UInt8 := [21, 4, 4, 96, 46, 42, 21, 4, 5, 96, 46, 182, 0, 141, 54, 6, 44, 182, 0, 114, 21, 5]
abbrev dktL_law_25 : List UInt8 := dkwL_law_25 ++ dktL_law_26
def dkwL_law_24 : List UInt8 := [167, 5, 252, 43, 42, 21, 4, 4, 96, 46, 42, 21, 4, 5, 96, 46, 45, 184, 0, 139, 54, 5, 44, 42]
abbrev dktL_law_24 : List UInt8 := dkwL_law_24 ++ dktL_law_25
def dkwL_law_23 : List UInt8 := [159, 0, 5, 3, 172, 21, 5, 154, 0, 15, 45, 3, 47, 21, 6, 133, 148, 153, 0, 5, 3, 172]
abbrev dktL_law_23 : List UInt8 := dkwL_law_23 ++ dktL_law_24
def dkwL_law_22 : List UInt8 := [21, 4, 4, 96, 46, 42, 21, 4, 5, 96, 46, 182, 0, 138, 54, 6, 44, 182, 0, 114, 21, 5]
abbrev dktL_law_22 : List UInt8 := dkwL_law_22 ++ dktL_law_23
def dkwL_law_21 : List UInt8 := [167, 6, 64, 43, 42, 21, 4, 4, 96, 46, 42, 21, 4, 5, 96, 46, 45, 184, 0, 136, 54, 5, 44, 42]
abbrev dktL_law_21 : List UInt8 := dkwL_law_21 ++ dktL_law_22
def dkwL_law_20 : List UInt8 := [159, 0, 5, 3, 172, 21, 5, 154, 0, 15, 45, 3, 47, 21, 6, 133, 148, 153, 0, 5, 3, 172]
abbrev dktL_law_20 : List UInt8 := dkwL_law_20 ++ dktL_law_21
def dkwL_law_19 : List UInt8 := [21, 4, 5, 96, 46, 42, 21, 4, 6, 96, 46, 182, 0, 135, 54, 6, 44, 182, 0, 114, 21, 5]
abbrev dktL_law_19 : List UInt8 := dkwL_law_19 ++ dktL_law_20
def dkwL_law_18 : List UInt8 := [5, 96, 46, 42, 21, 4, 6, 96, 46, 45, 184, 0, 133, 54, 5, 44, 42, 21, 4, 4, 96, 46, 42]
abbrev dktL_law_18 : List UInt8 := dkwL_law_18 ++ dktL_law_19
def dkwL_law_17 : List UInt8 := [3, 47, 21, 6, 133, 148, 153, 0, 5, 3, 172, 167, 6, 144, 43, 42, 21, 4, 4, 96, 46, 42, 21, 4]
abbrev dktL_law_17 : List UInt8 := dkwL_law_17 ++ dktL_law_18
def dkwL_law_16 : List UInt8 := [96, 46, 182, 0, 132, 54, 6, 44, 182, 0, 114, 21, 5, 159, 0, 5, 3, 172, 21, 5, 154, 0, 15, 45]
abbrev dktL_law_16 : List UInt8 := dkwL_law_16 ++ dktL_law_17
def dkwL_law_15 : List UInt8 := [46, 42, 21, 4, 5, 96, 46, 45, 184, 0, 129, 54, 5, 44, 42, 21, 4, 4, 96, 46, 42, 21, 4, 5]
abbrev dktL_law_15 : List UInt8 := dkwL_law_15 ++ dktL_law_16
def dkwL_law_14 : List UInt8 := [154, 0, 15, 45, 3, 47, 21, 6, 133, 148, 153, 0, 5, 3, 172, 167, 6, 212, 43, 42, 21, 4, 4, 96]
abbrev dktL_law_14 : List UInt8 := dkwL_law_14 ++ dktL_law_15
def dkwL_law_13 : List UInt8 := [21, 4, 6, 96, 46, 182, 0, 128, 54, 6, 44, 182, 0, 114, 21, 5, 159, 0, 5, 3, 172, 21, 5]
abbrev dktL_law_13 : List UInt8 := dkwL_law_13 ++ dktL_law_14
def dkwL_law_12 : List UInt8 := [6, 96, 46, 45, 184, 0, 125, 54, 5, 44, 42, 21, 4, 4, 96, 46, 42, 21, 4, 5, 96, 46, 42]
abbrev dktL_law_12 : List UInt8 := dkwL_law_12 ++ dktL_law_13
def dkwL_law_11 : List UInt8 := [153, 0, 5, 3, 172, 167, 7, 36, 43, 42, 21, 4, 4, 96, 46, 42, 21, 4, 5, 96, 46, 42, 21, 4]
abbrev dktL_law_11 : List UInt8 := dkwL_law_11 ++ dktL_law_12
def dkwL_law_10 : List UInt8 := [182, 0, 114, 21, 5, 159, 0, 5, 3, 172, 21, 5, 154, 0, 15, 45, 3, 47, 21, 6, 133, 148]
abbrev dktL_law_10 : List UInt8 := dkwL_law_10 ++ dktL_law_11
def dkwL_law_9 : List UInt8 := [21, 4, 4, 96, 46, 45, 184, 0, 122, 54, 5, 44, 42, 21, 4, 4, 96, 46, 182, 0, 124, 54, 6, 44]
abbrev dktL_law_9 : List UInt8 := dkwL_law_9 ++ dktL_law_10
def dkwL_law_8 : List UInt8 := [148, 153, 0, 5, 3, 172, 167, 7, 105, 43, 182, 0, 118, 44, 182, 0, 121, 159, 7, 94, 3, 172, 43, 42]
abbrev dktL_law_8 : List UInt8 := dkwL_law_8 ++ dktL_law_9
def dkwL_law_7 : List UInt8 := [54, 6, 44, 182, 0, 114, 21, 5, 159, 0, 5, 3, 172, 21, 5, 154, 0, 15, 45, 3, 47, 21, 6, 133]
abbrev dktL_law_7 : List UInt8 := dkwL_law_7 ++ dktL_law_8
def dkwL_law_6 : List UInt8 := [172, 43, 42, 21, 4, 4, 96, 46, 45, 184, 0, 108, 54, 5, 44, 42, 21, 4, 4, 96, 46, 182, 0, 113]
abbrev dktL_law_6 : List UInt8 := dkwL_law_6 ++ dktL_law_7
def dkwL_law_5 : List UInt8 := [21, 4, 6, 96, 46, 42, 21, 4, 7, 96, 46, 42, 21, 4, 8, 96, 46, 182, 0, 107, 159, 7, 163, 3]
abbrev dktL_law_5 : List UInt8 := dkwL_law_5 ++ dktL_law_6
def dkwL_law_4 : List UInt8 := [46, 42, 21, 4, 8, 96, 46, 182, 0, 103, 44, 42, 21, 4, 4, 96, 46, 42, 21, 4, 5, 96, 46, 42]
abbrev dktL_law_4 : List UInt8 := dkwL_law_4 ++ dktL_law_5
def dkwL_law_3 : List UInt8 := [43, 42, 21, 4, 4, 96, 46, 42, 21, 4, 5, 96, 46, 42, 21, 4, 6, 96, 46, 42, 21, 4, 7, 96]
abbrev dktL_law_3 : List UInt8 := dkwL_law_3 ++ dktL_law_4
def dkwL_law_2 : List UInt8 := [170, 0, 0, 0, 0, 0, 8, 123, 0, 0, 0, 0, 0, 0, 0, 32, 0, 0, 0, 148, 0, 0, 0, 221, 0, 0, 1, 21, 0, 0, 1, 34, 0, 0, 1, 90, 0, 0, 1, 170, 0, 0, 1, 238, 0, 0, 2, 62, 0, 0, 2, 130, 0, 0, 2, 198, 0, 0, 3, 22, 0, 0, 3, 90, 0, 0, 3, 158, 0, 0, 3, 226, 0, 0, 4, 38, 0, 0, 4, 129, 0, 0, 4, 209, 0, 0, 5, 33, 0, 0, 5, 113, 0, 0, 5, 126, 0, 0, 5, 182, 0, 0, 5, 250, 0, 0, 6, 50, 0, 0, 6, 118, 0, 0, 6, 174, 0, 0, 6, 230, 0, 0, 7, 30, 0, 0, 7, 126, 0, 0, 7, 139, 0, 0, 7, 207, 0, 0, 8, 19, 0, 0, 8, 99, 0, 0, 8, 110]
abbrev dktL_law_2 : List UInt8 := dkwL_law_2 ++ dktL_law_3
def dkwL_law_1 : List UInt8 := [21, 4, 42, 190, 16, 6, 100, 163, 8, 139, 42, 21, 4, 46, 16, 63, 126]
abbrev dktL_law_1 : List UInt8 := dkwL_law_1 ++ dktL_law_2
def dkwL_law_0 : List UInt8 := [187, 0, 8, 89, 183, 0, 99, 76, 187, 0, 100, 89, 183, 0, 102, 77, 4, 188, 11, 78, 3, 54, 4]
abbrev dktL_law_0 : List UInt8 := dkwL_law_0 ++ dktL_law_1
theorem dksL_law_0 : cL_law.data.toList.drop 0 = dktL_law_0 := by decide +kernel
theorem dksL_law_1 : cL_law.data.toList.drop 23 = dktL_law_1 := dk_seg dksL_law_0 23 rfl rfl
theorem dksL_law_2 : cL_law.data.toList.drop 40 = dktL_law_2 := dk_seg dksL_law_1 17 rfl rfl
theorem dksL_law_3 : cL_law.data.toList.drop 188 = dktL_law_3 := dk_seg dksL_law_2 148 rfl rfl
theorem dksL_law_4 : cL_law.data.toList.drop 212 = dktL_law_4 := dk_seg dksL_law_3 24 rfl rfl
theorem dksL_law_5 : cL_law.data.toList.drop 236 = dktL_law_5 := dk_seg dksL_law_4 24 rfl rfl
theorem dksL_law_6 : cL_law.data.toList.drop 260 = dktL_law_6 := dk_seg dksL_law_5 24 rfl rfl
theorem dksL_law_7 : cL_law.data.toList.drop 284 = dktL_law_7 := dk_seg dksL_law_6 24 rfl rfl
theorem dksL_law_8 : cL_law.data.toList.drop 308 = dktL_law_8 := dk_seg dksL_law_7 24 rfl rfl
theorem dksL_law_9 : cL_law.data.toList.drop 332 = dktL_law_9 := dk_seg dksL_law_8 24 rfl rfl
theorem dksL_law_10 : cL_law.data.toList.drop 356 = dktL_law_10 := dk_seg dksL_law_9 24 rfl rfl
theorem dksL_law_11 : cL_law.data.toList.drop 378 = dktL_law_11 := dk_seg dksL_law_10 22 rfl rfl
theorem dksL_law_12 : cL_law.data.toList.drop 402 = dktL_law_12 := dk_seg dksL_law_11 24 rfl rfl
theorem dksL_law_13 : cL_law.data.toList.drop 425 = dktL_law_13 := dk_seg dksL_law_12 23 rfl rfl
theorem dksL_law_14 : cL_law.data.toList.drop 448 = dktL_law_14 := dk_seg dksL_law_13 23 rfl rfl
theorem dksL_law_15 : cL_law.data.toList.drop 472 = dktL_law_15 := dk_seg dksL_law_14 24 rfl rfl
theorem dksL_law_16 : cL_law.data.toList.drop 496 = dktL_law_16 := dk_seg dksL_law_15 24 rfl rfl
theorem dksL_law_17 : cL_law.data.toList.drop 520 = dktL_law_17 := dk_seg dksL_law_16 24 rfl rfl
theorem dksL_law_18 : cL_law.data.toList.drop 544 = dktL_law_18 := dk_seg dksL_law_17 24 rfl rfl
theorem dksL_law_19 : cL_law.data.toList.drop 567 = dktL_law_19 := dk_seg dksL_law_18 23 rfl rfl
theorem dksL_law_20 : cL_law.data.toList.drop 589 = dktL_law_20 := dk_seg dksL_law_19 22 rfl rfl
theorem dksL_law_21 : cL_law.data.toList.drop 611 = dktL_law_21 := dk_seg dksL_law_20 22 rfl rfl
theorem dksL_law_22 : cL_law.data.toList.drop 635 = dktL_law_22 := dk_seg dksL_law_21 24 rfl rfl
theorem dksL_law_23 : cL_law.data.toList.drop 657 = dktL_law_23 := dk_seg dksL_law_22 22 rfl rfl
theorem dksL_law_24 : cL_law.data.toList.drop 679 = dktL_law_24 := dk_seg dksL_law_23 22 rfl rfl
theorem dksL_law_25 : cL_law.data.toList.drop 703 = dktL_law_25 := dk_seg dksL_law_24 24 rfl rfl
theorem dksL_law_26 : cL_law.data.toList.drop 725 = dktL_law_26 := dk_seg dksL_law_25 22 rfl rfl
theorem dksL_law_27 : cL_law.data.toList.drop 747 = dktL_law_27 := dk_seg dksL_law_26 22 rfl rfl
theorem dksL_law_28 : cL_law.data.toList.drop 770 = dktL_law_28 := dk_seg dksL_law_27 23 rfl rfl
theorem dksL_law_29 : cL_law.data.toList.drop 794 = dktL_law_29 := dk_seg dksL_law_28 24 rfl rfl
theorem dksL_law_30 : cL_law.data.toList.drop 818 = dktL_law_30 := dk_seg dksL_law_29 24 rfl rfl
theorem dksL_law_31 : cL_law.data.toList.drop 842 = dktL_law_31 := dk_seg dksL_law_30 24 rfl rfl
theorem dksL_law_32 : cL_law.data.toList.drop 865 = dktL_law_32 := dk_seg dksL_law_31 23 rfl rfl
theorem dksL_law_33 : cL_law.data.toList.drop 889 = dktL_law_33 := dk_seg dksL_law_32 24 rfl rfl
theorem dksL_law_34 : cL_law.data.toList.drop 912 = dktL_law_34 := dk_seg dksL_law_33 23 rfl rfl
theorem dksL_law_35 : cL_law.data.toList.drop 936 = dktL_law_35 := dk_seg dksL_law_34 24 rfl rfl
theorem dksL_law_36 : cL_law.data.toList.drop 958 = dktL_law_36 := dk_seg dksL_law_35 22 rfl rfl
theorem dksL_law_37 : cL_law.data.toList.drop 980 = dktL_law_37 := dk_seg dksL_law_36 22 rfl rfl
theorem dksL_law_38 : cL_law.data.toList.drop 1004 = dktL_law_38 := dk_seg dksL_law_37 24 rfl rfl
theorem dksL_law_39 : cL_law.data.toList.drop 1026 = dktL_law_39 := dk_seg dksL_law_38 22 rfl rfl
theorem dksL_law_40 : cL_law.data.toList.drop 1048 = dktL_law_40 := dk_seg dksL_law_39 22 rfl rfl
theorem dksL_law_41 : cL_law.data.toList.drop 1072 = dktL_law_41 := dk_seg dksL_law_40 24 rfl rfl
theorem dksL_law_42 : cL_law.data.toList.drop 1094 = dktL_law_42 := dk_seg dksL_law_41 22 rfl rfl
theorem dksL_law_43 : cL_law.data.toList.drop 1118 = dktL_law_43 := dk_seg dksL_law_42 24 rfl rfl
theorem dksL_law_44 : cL_law.data.toList.drop 1142 = dktL_law_44 := dk_seg dksL_law_43 24 rfl rfl
theorem dksL_law_45 : cL_law.data.toList.drop 1166 = dktL_law_45 := dk_seg dksL_law_44 24 rfl rfl
theorem dksL_law_46 : cL_law.data.toList.drop 1190 = dktL_law_46 := dk_seg dksL_law_45 24 rfl rfl
theorem dksL_law_47 : cL_law.data.toList.drop 1213 = dktL_law_47 := dk_seg dksL_law_46 23 rfl rfl
theorem dksL_law_48 : cL_law.data.toList.drop 1237 = dktL_law_48 := dk_seg dksL_law_47 24 rfl rfl
theorem dksL_law_49 : cL_law.data.toList.drop 1261 = dktL_law_49 := dk_seg dksL_law_48 24 rfl rfl
theorem dksL_law_50 : cL_law.data.toList.drop 1285 = dktL_law_50 := dk_seg dksL_law_49 24 rfl rfl
theorem dksL_law_51 : cL_law.data.toList.drop 1309 = dktL_law_51 := dk_seg dksL_law_50 24 rfl rfl
theorem dksL_law_52 : cL_law.data.toList.drop 1333 = dktL_law_52 := dk_seg dksL_law_51 24 rfl rfl
theorem dksL_law_53 : cL_law.data.toList.drop 1357 = dktL_law_53 := dk_seg dksL_law_52 24 rfl rfl
theorem dksL_law_54 : cL_law.data.toList.drop 1380 = dktL_law_54 := dk_seg dksL_law_53 23 rfl rfl
theorem dksL_law_55 : cL_law.data.toList.drop 1403 = dktL_law_55 := dk_seg dksL_law_54 23 rfl rfl
theorem dksL_law_56 : cL_law.data.toList.drop 1425 = dktL_law_56 := dk_seg dksL_law_55 22 rfl rfl
theorem dksL_law_57 : cL_law.data.toList.drop 1448 = dktL_law_57 := dk_seg dksL_law_56 23 rfl rfl
theorem dksL_law_58 : cL_law.data.toList.drop 1472 = dktL_law_58 := dk_seg dksL_law_57 24 rfl rfl
theorem dksL_law_59 : cL_law.data.toList.drop 1494 = dktL_law_59 := dk_seg dksL_law_58 22 rfl rfl
theorem dksL_law_60 : cL_law.data.toList.drop 1516 = dktL_law_60 := dk_seg dksL_law_59 22 rfl rfl
theorem dksL_law_61 : cL_law.data.toList.drop 1540 = dktL_law_61 := dk_seg dksL_law_60 24 rfl rfl
theorem dksL_law_62 : cL_law.data.toList.drop 1562 = dktL_law_62 := dk_seg dksL_law_61 22 rfl rfl
theorem dksL_law_63 : cL_law.data.toList.drop 1585 = dktL_law_63 := dk_seg dksL_law_62 23 rfl rfl
theorem dksL_law_64 : cL_law.data.toList.drop 1608 = dktL_law_64 := dk_seg dksL_law_63 23 rfl rfl
theorem dksL_law_65 : cL_law.data.toList.drop 1632 = dktL_law_65 := dk_seg dksL_law_64 24 rfl rfl
theorem dksL_law_66 : cL_law.data.toList.drop 1656 = dktL_law_66 := dk_seg dksL_law_65 24 rfl rfl
theorem dksL_law_67 : cL_law.data.toList.drop 1680 = dktL_law_67 := dk_seg dksL_law_66 24 rfl rfl
theorem dksL_law_68 : cL_law.data.toList.drop 1702 = dktL_law_68 := dk_seg dksL_law_67 22 rfl rfl
theorem dksL_law_69 : cL_law.data.toList.drop 1725 = dktL_law_69 := dk_seg dksL_law_68 23 rfl rfl
theorem dksL_law_70 : cL_law.data.toList.drop 1747 = dktL_law_70 := dk_seg dksL_law_69 22 rfl rfl
theorem dksL_law_71 : cL_law.data.toList.drop 1770 = dktL_law_71 := dk_seg dksL_law_70 23 rfl rfl
theorem dksL_law_72 : cL_law.data.toList.drop 1794 = dktL_law_72 := dk_seg dksL_law_71 24 rfl rfl
theorem dksL_law_73 : cL_law.data.toList.drop 1817 = dktL_law_73 := dk_seg dksL_law_72 23 rfl rfl
theorem dksL_law_74 : cL_law.data.toList.drop 1841 = dktL_law_74 := dk_seg dksL_law_73 24 rfl rfl
theorem dksL_law_75 : cL_law.data.toList.drop 1864 = dktL_law_75 := dk_seg dksL_law_74 23 rfl rfl
theorem dksL_law_76 : cL_law.data.toList.drop 1888 = dktL_law_76 := dk_seg dksL_law_75 24 rfl rfl
theorem dksL_law_77 : cL_law.data.toList.drop 1912 = dktL_law_77 := dk_seg dksL_law_76 24 rfl rfl
theorem dksL_law_78 : cL_law.data.toList.drop 1936 = dktL_law_78 := dk_seg dksL_law_77 24 rfl rfl
theorem dksL_law_79 : cL_law.data.toList.drop 1959 = dktL_law_79 := dk_seg dksL_law_78 23 rfl rfl
theorem dksL_law_80 : cL_law.data.toList.drop 1983 = dktL_law_80 := dk_seg dksL_law_79 24 rfl rfl
theorem dksL_law_81 : cL_law.data.toList.drop 2006 = dktL_law_81 := dk_seg dksL_law_80 23 rfl rfl
theorem dksL_law_82 : cL_law.data.toList.drop 2030 = dktL_law_82 := dk_seg dksL_law_81 24 rfl rfl
theorem dksL_law_83 : cL_law.data.toList.drop 2053 = dktL_law_83 := dk_seg dksL_law_82 23 rfl rfl
theorem dksL_law_84 : cL_law.data.toList.drop 2077 = dktL_law_84 := dk_seg dksL_law_83 24 rfl rfl
theorem dksL_law_85 : cL_law.data.toList.drop 2099 = dktL_law_85 := dk_seg dksL_law_84 22 rfl rfl
theorem dksL_law_86 : cL_law.data.toList.drop 2123 = dktL_law_86 := dk_seg dksL_law_85 24 rfl rfl
theorem dksL_law_87 : cL_law.data.toList.drop 2146 = dktL_law_87 := dk_seg dksL_law_86 23 rfl rfl
theorem dksL_law_88 : cL_law.data.toList.drop 2169 = dktL_law_88 := dk_seg dksL_law_87 23 rfl rfl
theorem dksL_law_89 : cL_law.data.toList.drop 2192 = dktL_law_89 := dk_seg dksL_law_88 23 rfl rfl
theorem dksL_law_90 : cL_law.data.toList.drop 2214 = dktL_law_90 := dk_seg dksL_law_89 22 rfl rfl
theorem dL_law_0 : decode cL_law 0 = .ok (.new 8, 3) := dk_187 0 8 (dk_at dksL_law_0 0 rfl rfl)
theorem dL_law_3 : decode cL_law 3 = .ok (.dup, 1) := dk_89 (dk_at dksL_law_0 3 rfl rfl)
theorem dL_law_4 : decode cL_law 4 = .ok (.invokespecial 99, 3) := dk_183 0 99 (dk_at dksL_law_0 4 rfl rfl)
theorem dL_law_7 : decode cL_law 7 = .ok (.astore_n 1, 1) := dk_76 (dk_at dksL_law_0 7 rfl rfl)
theorem dL_law_8 : decode cL_law 8 = .ok (.new 100, 3) := dk_187 0 100 (dk_at dksL_law_0 8 rfl rfl)
theorem dL_law_11 : decode cL_law 11 = .ok (.dup, 1) := dk_89 (dk_at dksL_law_0 11 rfl rfl)
theorem dL_law_12 : decode cL_law 12 = .ok (.invokespecial 102, 3) := dk_183 0 102 (dk_at dksL_law_0 12 rfl rfl)
theorem dL_law_15 : decode cL_law 15 = .ok (.astore_n 2, 1) := dk_77 (dk_at dksL_law_0 15 rfl rfl)
theorem dL_law_16 : decode cL_law 16 = .ok (.iconst 1, 1) := dk_4 (dk_at dksL_law_0 16 rfl rfl)
theorem dL_law_17 : decode cL_law 17 = .ok (.newarray .long, 2) := dk_188_11 (dk_at dksL_law_0 17 rfl rfl)
theorem dL_law_19 : decode cL_law 19 = .ok (.astore_n 3, 1) := dk_78 (dk_at dksL_law_0 19 rfl rfl)
theorem dL_law_20 : decode cL_law 20 = .ok (.iconst 0, 1) := dk_3 (dk_at dksL_law_0 20 rfl rfl)
theorem dL_law_21 : decode cL_law 21 = .ok (.istore 4, 2) := dk_54 4 (dk_at dksL_law_0 21 rfl rfl)
theorem dL_law_23 : decode cL_law 23 = .ok (.iload 4, 2) := dk_21 4 (dk_at dksL_law_1 0 rfl rfl)
theorem dL_law_25 : decode cL_law 25 = .ok (.aload_n 0, 1) := dk_42 (dk_at dksL_law_1 2 rfl rfl)
theorem dL_law_26 : decode cL_law 26 = .ok (.arraylength, 1) := dk_190 (dk_at dksL_law_1 3 rfl rfl)
theorem dL_law_27 : decode cL_law 27 = .ok (.bipush 6, 2) := dk_16 6 (dk_at dksL_law_1 4 rfl rfl)
theorem dL_law_29 : decode cL_law 29 = .ok (.isub, 1) := dk_100 (dk_at dksL_law_1 6 rfl rfl)
theorem dL_law_30 : decode cL_law 30 = .ok (.if_icmp .gt 2187, 3) := dk_163 8 139 (dk_at dksL_law_1 7 rfl rfl)
theorem dL_law_33 : decode cL_law 33 = .ok (.aload_n 0, 1) := dk_42 (dk_at dksL_law_1 10 rfl rfl)
theorem dL_law_34 : decode cL_law 34 = .ok (.iload 4, 2) := dk_21 4 (dk_at dksL_law_1 11 rfl rfl)
theorem dL_law_36 : decode cL_law 36 = .ok (.iaload, 1) := dk_46 (dk_at dksL_law_1 13 rfl rfl)
theorem dL_law_37 : decode cL_law 37 = .ok (.bipush 63, 2) := dk_16 63 (dk_at dksL_law_1 14 rfl rfl)
theorem dL_law_39 : decode cL_law 39 = .ok (.iand, 1) := dk_126 (dk_at dksL_law_1 16 rfl rfl)
theorem dL_law_40 : decode cL_law 40 = .ok (.tableswitch 2171 0 32 #[148, 221, 277, 290, 346, 426, 494, 574, 642, 710, 790, 858, 926, 994, 1062, 1153, 1233, 1313, 1393, 1406, 1462, 1530, 1586, 1654, 1710, 1766, 1822, 1918, 1931, 1999, 2067, 2147, 2158], 148) := by decide +kernel
theorem dL_law_188 : decode cL_law 188 = .ok (.aload_n 1, 1) := dk_43 (dk_at dksL_law_3 0 rfl rfl)
theorem dL_law_189 : decode cL_law 189 = .ok (.aload_n 0, 1) := dk_42 (dk_at dksL_law_3 1 rfl rfl)
theorem dL_law_190 : decode cL_law 190 = .ok (.iload 4, 2) := dk_21 4 (dk_at dksL_law_3 2 rfl rfl)
theorem dL_law_192 : decode cL_law 192 = .ok (.iconst 1, 1) := dk_4 (dk_at dksL_law_3 4 rfl rfl)
theorem dL_law_193 : decode cL_law 193 = .ok (.iadd, 1) := dk_96 (dk_at dksL_law_3 5 rfl rfl)
theorem dL_law_194 : decode cL_law 194 = .ok (.iaload, 1) := dk_46 (dk_at dksL_law_3 6 rfl rfl)
theorem dL_law_195 : decode cL_law 195 = .ok (.aload_n 0, 1) := dk_42 (dk_at dksL_law_3 7 rfl rfl)
theorem dL_law_196 : decode cL_law 196 = .ok (.iload 4, 2) := dk_21 4 (dk_at dksL_law_3 8 rfl rfl)
theorem dL_law_198 : decode cL_law 198 = .ok (.iconst 2, 1) := dk_5 (dk_at dksL_law_3 10 rfl rfl)
theorem dL_law_199 : decode cL_law 199 = .ok (.iadd, 1) := dk_96 (dk_at dksL_law_3 11 rfl rfl)
theorem dL_law_200 : decode cL_law 200 = .ok (.iaload, 1) := dk_46 (dk_at dksL_law_3 12 rfl rfl)
theorem dL_law_201 : decode cL_law 201 = .ok (.aload_n 0, 1) := dk_42 (dk_at dksL_law_3 13 rfl rfl)
theorem dL_law_202 : decode cL_law 202 = .ok (.iload 4, 2) := dk_21 4 (dk_at dksL_law_3 14 rfl rfl)
theorem dL_law_204 : decode cL_law 204 = .ok (.iconst 3, 1) := dk_6 (dk_at dksL_law_3 16 rfl rfl)
theorem dL_law_205 : decode cL_law 205 = .ok (.iadd, 1) := dk_96 (dk_at dksL_law_3 17 rfl rfl)
theorem dL_law_206 : decode cL_law 206 = .ok (.iaload, 1) := dk_46 (dk_at dksL_law_3 18 rfl rfl)
theorem dL_law_207 : decode cL_law 207 = .ok (.aload_n 0, 1) := dk_42 (dk_at dksL_law_3 19 rfl rfl)
theorem dL_law_208 : decode cL_law 208 = .ok (.iload 4, 2) := dk_21 4 (dk_at dksL_law_3 20 rfl rfl)
theorem dL_law_210 : decode cL_law 210 = .ok (.iconst 4, 1) := dk_7 (dk_at dksL_law_3 22 rfl rfl)
theorem dL_law_211 : decode cL_law 211 = .ok (.iadd, 1) := dk_96 (dk_at dksL_law_3 23 rfl rfl)
theorem dL_law_212 : decode cL_law 212 = .ok (.iaload, 1) := dk_46 (dk_at dksL_law_4 0 rfl rfl)
theorem dL_law_213 : decode cL_law 213 = .ok (.aload_n 0, 1) := dk_42 (dk_at dksL_law_4 1 rfl rfl)
theorem dL_law_214 : decode cL_law 214 = .ok (.iload 4, 2) := dk_21 4 (dk_at dksL_law_4 2 rfl rfl)
theorem dL_law_216 : decode cL_law 216 = .ok (.iconst 5, 1) := dk_8 (dk_at dksL_law_4 4 rfl rfl)
theorem dL_law_217 : decode cL_law 217 = .ok (.iadd, 1) := dk_96 (dk_at dksL_law_4 5 rfl rfl)
theorem dL_law_218 : decode cL_law 218 = .ok (.iaload, 1) := dk_46 (dk_at dksL_law_4 6 rfl rfl)
theorem dL_law_219 : decode cL_law 219 = .ok (.invokevirtual 103, 3) := dk_182 0 103 (dk_at dksL_law_4 7 rfl rfl)
theorem dL_law_222 : decode cL_law 222 = .ok (.aload_n 2, 1) := dk_44 (dk_at dksL_law_4 10 rfl rfl)
theorem dL_law_223 : decode cL_law 223 = .ok (.aload_n 0, 1) := dk_42 (dk_at dksL_law_4 11 rfl rfl)
theorem dL_law_224 : decode cL_law 224 = .ok (.iload 4, 2) := dk_21 4 (dk_at dksL_law_4 12 rfl rfl)
theorem dL_law_226 : decode cL_law 226 = .ok (.iconst 1, 1) := dk_4 (dk_at dksL_law_4 14 rfl rfl)
theorem dL_law_227 : decode cL_law 227 = .ok (.iadd, 1) := dk_96 (dk_at dksL_law_4 15 rfl rfl)
theorem dL_law_228 : decode cL_law 228 = .ok (.iaload, 1) := dk_46 (dk_at dksL_law_4 16 rfl rfl)
theorem dL_law_229 : decode cL_law 229 = .ok (.aload_n 0, 1) := dk_42 (dk_at dksL_law_4 17 rfl rfl)
theorem dL_law_230 : decode cL_law 230 = .ok (.iload 4, 2) := dk_21 4 (dk_at dksL_law_4 18 rfl rfl)
theorem dL_law_232 : decode cL_law 232 = .ok (.iconst 2, 1) := dk_5 (dk_at dksL_law_4 20 rfl rfl)
theorem dL_law_233 : decode cL_law 233 = .ok (.iadd, 1) := dk_96 (dk_at dksL_law_4 21 rfl rfl)
theorem dL_law_234 : decode cL_law 234 = .ok (.iaload, 1) := dk_46 (dk_at dksL_law_4 22 rfl rfl)
theorem dL_law_235 : decode cL_law 235 = .ok (.aload_n 0, 1) := dk_42 (dk_at dksL_law_4 23 rfl rfl)
theorem dL_law_236 : decode cL_law 236 = .ok (.iload 4, 2) := dk_21 4 (dk_at dksL_law_5 0 rfl rfl)
theorem dL_law_238 : decode cL_law 238 = .ok (.iconst 3, 1) := dk_6 (dk_at dksL_law_5 2 rfl rfl)
theorem dL_law_239 : decode cL_law 239 = .ok (.iadd, 1) := dk_96 (dk_at dksL_law_5 3 rfl rfl)
theorem dL_law_240 : decode cL_law 240 = .ok (.iaload, 1) := dk_46 (dk_at dksL_law_5 4 rfl rfl)
theorem dL_law_241 : decode cL_law 241 = .ok (.aload_n 0, 1) := dk_42 (dk_at dksL_law_5 5 rfl rfl)
theorem dL_law_242 : decode cL_law 242 = .ok (.iload 4, 2) := dk_21 4 (dk_at dksL_law_5 6 rfl rfl)
theorem dL_law_244 : decode cL_law 244 = .ok (.iconst 4, 1) := dk_7 (dk_at dksL_law_5 8 rfl rfl)
theorem dL_law_245 : decode cL_law 245 = .ok (.iadd, 1) := dk_96 (dk_at dksL_law_5 9 rfl rfl)
theorem dL_law_246 : decode cL_law 246 = .ok (.iaload, 1) := dk_46 (dk_at dksL_law_5 10 rfl rfl)
theorem dL_law_247 : decode cL_law 247 = .ok (.aload_n 0, 1) := dk_42 (dk_at dksL_law_5 11 rfl rfl)
theorem dL_law_248 : decode cL_law 248 = .ok (.iload 4, 2) := dk_21 4 (dk_at dksL_law_5 12 rfl rfl)
theorem dL_law_250 : decode cL_law 250 = .ok (.iconst 5, 1) := dk_8 (dk_at dksL_law_5 14 rfl rfl)
theorem dL_law_251 : decode cL_law 251 = .ok (.iadd, 1) := dk_96 (dk_at dksL_law_5 15 rfl rfl)
theorem dL_law_252 : decode cL_law 252 = .ok (.iaload, 1) := dk_46 (dk_at dksL_law_5 16 rfl rfl)
theorem dL_law_253 : decode cL_law 253 = .ok (.invokevirtual 107, 3) := dk_182 0 107 (dk_at dksL_law_5 17 rfl rfl)
theorem dL_law_256 : decode cL_law 256 = .ok (.if_icmp .eq 1955, 3) := dk_159 7 163 (dk_at dksL_law_5 20 rfl rfl)
theorem dL_law_259 : decode cL_law 259 = .ok (.iconst 0, 1) := dk_3 (dk_at dksL_law_5 23 rfl rfl)
theorem dL_law_260 : decode cL_law 260 = .ok (.ireturn, 1) := dk_172 (dk_at dksL_law_6 0 rfl rfl)
theorem dL_law_261 : decode cL_law 261 = .ok (.aload_n 1, 1) := dk_43 (dk_at dksL_law_6 1 rfl rfl)
theorem dL_law_262 : decode cL_law 262 = .ok (.aload_n 0, 1) := dk_42 (dk_at dksL_law_6 2 rfl rfl)
theorem dL_law_263 : decode cL_law 263 = .ok (.iload 4, 2) := dk_21 4 (dk_at dksL_law_6 3 rfl rfl)
theorem dL_law_265 : decode cL_law 265 = .ok (.iconst 1, 1) := dk_4 (dk_at dksL_law_6 5 rfl rfl)
theorem dL_law_266 : decode cL_law 266 = .ok (.iadd, 1) := dk_96 (dk_at dksL_law_6 6 rfl rfl)
theorem dL_law_267 : decode cL_law 267 = .ok (.iaload, 1) := dk_46 (dk_at dksL_law_6 7 rfl rfl)
theorem dL_law_268 : decode cL_law 268 = .ok (.aload_n 3, 1) := dk_45 (dk_at dksL_law_6 8 rfl rfl)
theorem dL_law_269 : decode cL_law 269 = .ok (.invokestatic 108, 3) := dk_184 0 108 (dk_at dksL_law_6 9 rfl rfl)
theorem dL_law_272 : decode cL_law 272 = .ok (.istore 5, 2) := dk_54 5 (dk_at dksL_law_6 12 rfl rfl)
theorem dL_law_274 : decode cL_law 274 = .ok (.aload_n 2, 1) := dk_44 (dk_at dksL_law_6 14 rfl rfl)
theorem dL_law_275 : decode cL_law 275 = .ok (.aload_n 0, 1) := dk_42 (dk_at dksL_law_6 15 rfl rfl)
theorem dL_law_276 : decode cL_law 276 = .ok (.iload 4, 2) := dk_21 4 (dk_at dksL_law_6 16 rfl rfl)
theorem dL_law_278 : decode cL_law 278 = .ok (.iconst 1, 1) := dk_4 (dk_at dksL_law_6 18 rfl rfl)
theorem dL_law_279 : decode cL_law 279 = .ok (.iadd, 1) := dk_96 (dk_at dksL_law_6 19 rfl rfl)
theorem dL_law_280 : decode cL_law 280 = .ok (.iaload, 1) := dk_46 (dk_at dksL_law_6 20 rfl rfl)
theorem dL_law_281 : decode cL_law 281 = .ok (.invokevirtual 113, 3) := dk_182 0 113 (dk_at dksL_law_6 21 rfl rfl)
theorem dL_law_284 : decode cL_law 284 = .ok (.istore 6, 2) := dk_54 6 (dk_at dksL_law_7 0 rfl rfl)
theorem dL_law_286 : decode cL_law 286 = .ok (.aload_n 2, 1) := dk_44 (dk_at dksL_law_7 2 rfl rfl)
theorem dL_law_287 : decode cL_law 287 = .ok (.invokevirtual 114, 3) := dk_182 0 114 (dk_at dksL_law_7 3 rfl rfl)
theorem dL_law_290 : decode cL_law 290 = .ok (.iload 5, 2) := dk_21 5 (dk_at dksL_law_7 6 rfl rfl)
theorem dL_law_292 : decode cL_law 292 = .ok (.if_icmp .eq 5, 3) := dk_159 0 5 (dk_at dksL_law_7 8 rfl rfl)
theorem dL_law_295 : decode cL_law 295 = .ok (.iconst 0, 1) := dk_3 (dk_at dksL_law_7 11 rfl rfl)
theorem dL_law_296 : decode cL_law 296 = .ok (.ireturn, 1) := dk_172 (dk_at dksL_law_7 12 rfl rfl)
theorem dL_law_297 : decode cL_law 297 = .ok (.iload 5, 2) := dk_21 5 (dk_at dksL_law_7 13 rfl rfl)
theorem dL_law_299 : decode cL_law 299 = .ok (.ifCond .ne 15, 3) := dk_154 0 15 (dk_at dksL_law_7 15 rfl rfl)
theorem dL_law_302 : decode cL_law 302 = .ok (.aload_n 3, 1) := dk_45 (dk_at dksL_law_7 18 rfl rfl)
theorem dL_law_303 : decode cL_law 303 = .ok (.iconst 0, 1) := dk_3 (dk_at dksL_law_7 19 rfl rfl)
theorem dL_law_304 : decode cL_law 304 = .ok (.laload, 1) := dk_47 (dk_at dksL_law_7 20 rfl rfl)
theorem dL_law_305 : decode cL_law 305 = .ok (.iload 6, 2) := dk_21 6 (dk_at dksL_law_7 21 rfl rfl)
theorem dL_law_307 : decode cL_law 307 = .ok (.i2l, 1) := dk_133 (dk_at dksL_law_7 23 rfl rfl)
theorem dL_law_308 : decode cL_law 308 = .ok (.lcmp, 1) := dk_148 (dk_at dksL_law_8 0 rfl rfl)
theorem dL_law_309 : decode cL_law 309 = .ok (.ifCond .eq 5, 3) := dk_153 0 5 (dk_at dksL_law_8 1 rfl rfl)
theorem dL_law_312 : decode cL_law 312 = .ok (.iconst 0, 1) := dk_3 (dk_at dksL_law_8 4 rfl rfl)
theorem dL_law_313 : decode cL_law 313 = .ok (.ireturn, 1) := dk_172 (dk_at dksL_law_8 5 rfl rfl)
theorem dL_law_314 : decode cL_law 314 = .ok (.goto 1897, 3) := dk_167 7 105 (dk_at dksL_law_8 6 rfl rfl)
theorem dL_law_317 : decode cL_law 317 = .ok (.aload_n 1, 1) := dk_43 (dk_at dksL_law_8 9 rfl rfl)
theorem dL_law_318 : decode cL_law 318 = .ok (.invokevirtual 118, 3) := dk_182 0 118 (dk_at dksL_law_8 10 rfl rfl)
theorem dL_law_321 : decode cL_law 321 = .ok (.aload_n 2, 1) := dk_44 (dk_at dksL_law_8 13 rfl rfl)
theorem dL_law_322 : decode cL_law 322 = .ok (.invokevirtual 121, 3) := dk_182 0 121 (dk_at dksL_law_8 14 rfl rfl)
theorem dL_law_325 : decode cL_law 325 = .ok (.if_icmp .eq 1886, 3) := dk_159 7 94 (dk_at dksL_law_8 17 rfl rfl)
theorem dL_law_328 : decode cL_law 328 = .ok (.iconst 0, 1) := dk_3 (dk_at dksL_law_8 20 rfl rfl)
theorem dL_law_329 : decode cL_law 329 = .ok (.ireturn, 1) := dk_172 (dk_at dksL_law_8 21 rfl rfl)
theorem dL_law_330 : decode cL_law 330 = .ok (.aload_n 1, 1) := dk_43 (dk_at dksL_law_8 22 rfl rfl)
theorem dL_law_331 : decode cL_law 331 = .ok (.aload_n 0, 1) := dk_42 (dk_at dksL_law_8 23 rfl rfl)
theorem dL_law_332 : decode cL_law 332 = .ok (.iload 4, 2) := dk_21 4 (dk_at dksL_law_9 0 rfl rfl)
theorem dL_law_334 : decode cL_law 334 = .ok (.iconst 1, 1) := dk_4 (dk_at dksL_law_9 2 rfl rfl)
theorem dL_law_335 : decode cL_law 335 = .ok (.iadd, 1) := dk_96 (dk_at dksL_law_9 3 rfl rfl)
theorem dL_law_336 : decode cL_law 336 = .ok (.iaload, 1) := dk_46 (dk_at dksL_law_9 4 rfl rfl)
theorem dL_law_337 : decode cL_law 337 = .ok (.aload_n 3, 1) := dk_45 (dk_at dksL_law_9 5 rfl rfl)
theorem dL_law_338 : decode cL_law 338 = .ok (.invokestatic 122, 3) := dk_184 0 122 (dk_at dksL_law_9 6 rfl rfl)
theorem dL_law_341 : decode cL_law 341 = .ok (.istore 5, 2) := dk_54 5 (dk_at dksL_law_9 9 rfl rfl)
theorem dL_law_343 : decode cL_law 343 = .ok (.aload_n 2, 1) := dk_44 (dk_at dksL_law_9 11 rfl rfl)
theorem dL_law_344 : decode cL_law 344 = .ok (.aload_n 0, 1) := dk_42 (dk_at dksL_law_9 12 rfl rfl)
theorem dL_law_345 : decode cL_law 345 = .ok (.iload 4, 2) := dk_21 4 (dk_at dksL_law_9 13 rfl rfl)
theorem dL_law_347 : decode cL_law 347 = .ok (.iconst 1, 1) := dk_4 (dk_at dksL_law_9 15 rfl rfl)
theorem dL_law_348 : decode cL_law 348 = .ok (.iadd, 1) := dk_96 (dk_at dksL_law_9 16 rfl rfl)
theorem dL_law_349 : decode cL_law 349 = .ok (.iaload, 1) := dk_46 (dk_at dksL_law_9 17 rfl rfl)
theorem dL_law_350 : decode cL_law 350 = .ok (.invokevirtual 124, 3) := dk_182 0 124 (dk_at dksL_law_9 18 rfl rfl)
theorem dL_law_353 : decode cL_law 353 = .ok (.istore 6, 2) := dk_54 6 (dk_at dksL_law_9 21 rfl rfl)
theorem dL_law_355 : decode cL_law 355 = .ok (.aload_n 2, 1) := dk_44 (dk_at dksL_law_9 23 rfl rfl)
theorem dL_law_356 : decode cL_law 356 = .ok (.invokevirtual 114, 3) := dk_182 0 114 (dk_at dksL_law_10 0 rfl rfl)
theorem dL_law_359 : decode cL_law 359 = .ok (.iload 5, 2) := dk_21 5 (dk_at dksL_law_10 3 rfl rfl)
theorem dL_law_361 : decode cL_law 361 = .ok (.if_icmp .eq 5, 3) := dk_159 0 5 (dk_at dksL_law_10 5 rfl rfl)
theorem dL_law_364 : decode cL_law 364 = .ok (.iconst 0, 1) := dk_3 (dk_at dksL_law_10 8 rfl rfl)
theorem dL_law_365 : decode cL_law 365 = .ok (.ireturn, 1) := dk_172 (dk_at dksL_law_10 9 rfl rfl)
theorem dL_law_366 : decode cL_law 366 = .ok (.iload 5, 2) := dk_21 5 (dk_at dksL_law_10 10 rfl rfl)
theorem dL_law_368 : decode cL_law 368 = .ok (.ifCond .ne 15, 3) := dk_154 0 15 (dk_at dksL_law_10 12 rfl rfl)
theorem dL_law_371 : decode cL_law 371 = .ok (.aload_n 3, 1) := dk_45 (dk_at dksL_law_10 15 rfl rfl)
theorem dL_law_372 : decode cL_law 372 = .ok (.iconst 0, 1) := dk_3 (dk_at dksL_law_10 16 rfl rfl)
theorem dL_law_373 : decode cL_law 373 = .ok (.laload, 1) := dk_47 (dk_at dksL_law_10 17 rfl rfl)
theorem dL_law_374 : decode cL_law 374 = .ok (.iload 6, 2) := dk_21 6 (dk_at dksL_law_10 18 rfl rfl)
theorem dL_law_376 : decode cL_law 376 = .ok (.i2l, 1) := dk_133 (dk_at dksL_law_10 20 rfl rfl)
theorem dL_law_377 : decode cL_law 377 = .ok (.lcmp, 1) := dk_148 (dk_at dksL_law_10 21 rfl rfl)
theorem dL_law_378 : decode cL_law 378 = .ok (.ifCond .eq 5, 3) := dk_153 0 5 (dk_at dksL_law_11 0 rfl rfl)
theorem dL_law_381 : decode cL_law 381 = .ok (.iconst 0, 1) := dk_3 (dk_at dksL_law_11 3 rfl rfl)
theorem dL_law_382 : decode cL_law 382 = .ok (.ireturn, 1) := dk_172 (dk_at dksL_law_11 4 rfl rfl)
theorem dL_law_383 : decode cL_law 383 = .ok (.goto 1828, 3) := dk_167 7 36 (dk_at dksL_law_11 5 rfl rfl)
theorem dL_law_386 : decode cL_law 386 = .ok (.aload_n 1, 1) := dk_43 (dk_at dksL_law_11 8 rfl rfl)
theorem dL_law_387 : decode cL_law 387 = .ok (.aload_n 0, 1) := dk_42 (dk_at dksL_law_11 9 rfl rfl)
theorem dL_law_388 : decode cL_law 388 = .ok (.iload 4, 2) := dk_21 4 (dk_at dksL_law_11 10 rfl rfl)
theorem dL_law_390 : decode cL_law 390 = .ok (.iconst 1, 1) := dk_4 (dk_at dksL_law_11 12 rfl rfl)
theorem dL_law_391 : decode cL_law 391 = .ok (.iadd, 1) := dk_96 (dk_at dksL_law_11 13 rfl rfl)
theorem dL_law_392 : decode cL_law 392 = .ok (.iaload, 1) := dk_46 (dk_at dksL_law_11 14 rfl rfl)
theorem dL_law_393 : decode cL_law 393 = .ok (.aload_n 0, 1) := dk_42 (dk_at dksL_law_11 15 rfl rfl)
theorem dL_law_394 : decode cL_law 394 = .ok (.iload 4, 2) := dk_21 4 (dk_at dksL_law_11 16 rfl rfl)
theorem dL_law_396 : decode cL_law 396 = .ok (.iconst 2, 1) := dk_5 (dk_at dksL_law_11 18 rfl rfl)
theorem dL_law_397 : decode cL_law 397 = .ok (.iadd, 1) := dk_96 (dk_at dksL_law_11 19 rfl rfl)
theorem dL_law_398 : decode cL_law 398 = .ok (.iaload, 1) := dk_46 (dk_at dksL_law_11 20 rfl rfl)
theorem dL_law_399 : decode cL_law 399 = .ok (.aload_n 0, 1) := dk_42 (dk_at dksL_law_11 21 rfl rfl)
theorem dL_law_400 : decode cL_law 400 = .ok (.iload 4, 2) := dk_21 4 (dk_at dksL_law_11 22 rfl rfl)
theorem dL_law_402 : decode cL_law 402 = .ok (.iconst 3, 1) := dk_6 (dk_at dksL_law_12 0 rfl rfl)
theorem dL_law_403 : decode cL_law 403 = .ok (.iadd, 1) := dk_96 (dk_at dksL_law_12 1 rfl rfl)
theorem dL_law_404 : decode cL_law 404 = .ok (.iaload, 1) := dk_46 (dk_at dksL_law_12 2 rfl rfl)
theorem dL_law_405 : decode cL_law 405 = .ok (.aload_n 3, 1) := dk_45 (dk_at dksL_law_12 3 rfl rfl)
theorem dL_law_406 : decode cL_law 406 = .ok (.invokestatic 125, 3) := dk_184 0 125 (dk_at dksL_law_12 4 rfl rfl)
theorem dL_law_409 : decode cL_law 409 = .ok (.istore 5, 2) := dk_54 5 (dk_at dksL_law_12 7 rfl rfl)
theorem dL_law_411 : decode cL_law 411 = .ok (.aload_n 2, 1) := dk_44 (dk_at dksL_law_12 9 rfl rfl)
theorem dL_law_412 : decode cL_law 412 = .ok (.aload_n 0, 1) := dk_42 (dk_at dksL_law_12 10 rfl rfl)
theorem dL_law_413 : decode cL_law 413 = .ok (.iload 4, 2) := dk_21 4 (dk_at dksL_law_12 11 rfl rfl)
theorem dL_law_415 : decode cL_law 415 = .ok (.iconst 1, 1) := dk_4 (dk_at dksL_law_12 13 rfl rfl)
theorem dL_law_416 : decode cL_law 416 = .ok (.iadd, 1) := dk_96 (dk_at dksL_law_12 14 rfl rfl)
theorem dL_law_417 : decode cL_law 417 = .ok (.iaload, 1) := dk_46 (dk_at dksL_law_12 15 rfl rfl)
theorem dL_law_418 : decode cL_law 418 = .ok (.aload_n 0, 1) := dk_42 (dk_at dksL_law_12 16 rfl rfl)
theorem dL_law_419 : decode cL_law 419 = .ok (.iload 4, 2) := dk_21 4 (dk_at dksL_law_12 17 rfl rfl)
theorem dL_law_421 : decode cL_law 421 = .ok (.iconst 2, 1) := dk_5 (dk_at dksL_law_12 19 rfl rfl)
theorem dL_law_422 : decode cL_law 422 = .ok (.iadd, 1) := dk_96 (dk_at dksL_law_12 20 rfl rfl)
theorem dL_law_423 : decode cL_law 423 = .ok (.iaload, 1) := dk_46 (dk_at dksL_law_12 21 rfl rfl)
theorem dL_law_424 : decode cL_law 424 = .ok (.aload_n 0, 1) := dk_42 (dk_at dksL_law_12 22 rfl rfl)
theorem dL_law_425 : decode cL_law 425 = .ok (.iload 4, 2) := dk_21 4 (dk_at dksL_law_13 0 rfl rfl)
theorem dL_law_427 : decode cL_law 427 = .ok (.iconst 3, 1) := dk_6 (dk_at dksL_law_13 2 rfl rfl)
theorem dL_law_428 : decode cL_law 428 = .ok (.iadd, 1) := dk_96 (dk_at dksL_law_13 3 rfl rfl)
theorem dL_law_429 : decode cL_law 429 = .ok (.iaload, 1) := dk_46 (dk_at dksL_law_13 4 rfl rfl)
theorem dL_law_430 : decode cL_law 430 = .ok (.invokevirtual 128, 3) := dk_182 0 128 (dk_at dksL_law_13 5 rfl rfl)
theorem dL_law_433 : decode cL_law 433 = .ok (.istore 6, 2) := dk_54 6 (dk_at dksL_law_13 8 rfl rfl)
theorem dL_law_435 : decode cL_law 435 = .ok (.aload_n 2, 1) := dk_44 (dk_at dksL_law_13 10 rfl rfl)
theorem dL_law_436 : decode cL_law 436 = .ok (.invokevirtual 114, 3) := dk_182 0 114 (dk_at dksL_law_13 11 rfl rfl)
theorem dL_law_439 : decode cL_law 439 = .ok (.iload 5, 2) := dk_21 5 (dk_at dksL_law_13 14 rfl rfl)
theorem dL_law_441 : decode cL_law 441 = .ok (.if_icmp .eq 5, 3) := dk_159 0 5 (dk_at dksL_law_13 16 rfl rfl)
theorem dL_law_444 : decode cL_law 444 = .ok (.iconst 0, 1) := dk_3 (dk_at dksL_law_13 19 rfl rfl)
theorem dL_law_445 : decode cL_law 445 = .ok (.ireturn, 1) := dk_172 (dk_at dksL_law_13 20 rfl rfl)
theorem dL_law_446 : decode cL_law 446 = .ok (.iload 5, 2) := dk_21 5 (dk_at dksL_law_13 21 rfl rfl)
theorem dL_law_448 : decode cL_law 448 = .ok (.ifCond .ne 15, 3) := dk_154 0 15 (dk_at dksL_law_14 0 rfl rfl)
theorem dL_law_451 : decode cL_law 451 = .ok (.aload_n 3, 1) := dk_45 (dk_at dksL_law_14 3 rfl rfl)
theorem dL_law_452 : decode cL_law 452 = .ok (.iconst 0, 1) := dk_3 (dk_at dksL_law_14 4 rfl rfl)
theorem dL_law_453 : decode cL_law 453 = .ok (.laload, 1) := dk_47 (dk_at dksL_law_14 5 rfl rfl)
theorem dL_law_454 : decode cL_law 454 = .ok (.iload 6, 2) := dk_21 6 (dk_at dksL_law_14 6 rfl rfl)
theorem dL_law_456 : decode cL_law 456 = .ok (.i2l, 1) := dk_133 (dk_at dksL_law_14 8 rfl rfl)
theorem dL_law_457 : decode cL_law 457 = .ok (.lcmp, 1) := dk_148 (dk_at dksL_law_14 9 rfl rfl)
theorem dL_law_458 : decode cL_law 458 = .ok (.ifCond .eq 5, 3) := dk_153 0 5 (dk_at dksL_law_14 10 rfl rfl)
theorem dL_law_461 : decode cL_law 461 = .ok (.iconst 0, 1) := dk_3 (dk_at dksL_law_14 13 rfl rfl)
theorem dL_law_462 : decode cL_law 462 = .ok (.ireturn, 1) := dk_172 (dk_at dksL_law_14 14 rfl rfl)
theorem dL_law_463 : decode cL_law 463 = .ok (.goto 1748, 3) := dk_167 6 212 (dk_at dksL_law_14 15 rfl rfl)
theorem dL_law_466 : decode cL_law 466 = .ok (.aload_n 1, 1) := dk_43 (dk_at dksL_law_14 18 rfl rfl)
theorem dL_law_467 : decode cL_law 467 = .ok (.aload_n 0, 1) := dk_42 (dk_at dksL_law_14 19 rfl rfl)
theorem dL_law_468 : decode cL_law 468 = .ok (.iload 4, 2) := dk_21 4 (dk_at dksL_law_14 20 rfl rfl)
theorem dL_law_470 : decode cL_law 470 = .ok (.iconst 1, 1) := dk_4 (dk_at dksL_law_14 22 rfl rfl)
theorem dL_law_471 : decode cL_law 471 = .ok (.iadd, 1) := dk_96 (dk_at dksL_law_14 23 rfl rfl)
theorem dL_law_472 : decode cL_law 472 = .ok (.iaload, 1) := dk_46 (dk_at dksL_law_15 0 rfl rfl)
theorem dL_law_473 : decode cL_law 473 = .ok (.aload_n 0, 1) := dk_42 (dk_at dksL_law_15 1 rfl rfl)
theorem dL_law_474 : decode cL_law 474 = .ok (.iload 4, 2) := dk_21 4 (dk_at dksL_law_15 2 rfl rfl)
theorem dL_law_476 : decode cL_law 476 = .ok (.iconst 2, 1) := dk_5 (dk_at dksL_law_15 4 rfl rfl)
theorem dL_law_477 : decode cL_law 477 = .ok (.iadd, 1) := dk_96 (dk_at dksL_law_15 5 rfl rfl)
theorem dL_law_478 : decode cL_law 478 = .ok (.iaload, 1) := dk_46 (dk_at dksL_law_15 6 rfl rfl)
theorem dL_law_479 : decode cL_law 479 = .ok (.aload_n 3, 1) := dk_45 (dk_at dksL_law_15 7 rfl rfl)
theorem dL_law_480 : decode cL_law 480 = .ok (.invokestatic 129, 3) := dk_184 0 129 (dk_at dksL_law_15 8 rfl rfl)
theorem dL_law_483 : decode cL_law 483 = .ok (.istore 5, 2) := dk_54 5 (dk_at dksL_law_15 11 rfl rfl)
theorem dL_law_485 : decode cL_law 485 = .ok (.aload_n 2, 1) := dk_44 (dk_at dksL_law_15 13 rfl rfl)
theorem dL_law_486 : decode cL_law 486 = .ok (.aload_n 0, 1) := dk_42 (dk_at dksL_law_15 14 rfl rfl)
theorem dL_law_487 : decode cL_law 487 = .ok (.iload 4, 2) := dk_21 4 (dk_at dksL_law_15 15 rfl rfl)
theorem dL_law_489 : decode cL_law 489 = .ok (.iconst 1, 1) := dk_4 (dk_at dksL_law_15 17 rfl rfl)
theorem dL_law_490 : decode cL_law 490 = .ok (.iadd, 1) := dk_96 (dk_at dksL_law_15 18 rfl rfl)
theorem dL_law_491 : decode cL_law 491 = .ok (.iaload, 1) := dk_46 (dk_at dksL_law_15 19 rfl rfl)
theorem dL_law_492 : decode cL_law 492 = .ok (.aload_n 0, 1) := dk_42 (dk_at dksL_law_15 20 rfl rfl)
theorem dL_law_493 : decode cL_law 493 = .ok (.iload 4, 2) := dk_21 4 (dk_at dksL_law_15 21 rfl rfl)
theorem dL_law_495 : decode cL_law 495 = .ok (.iconst 2, 1) := dk_5 (dk_at dksL_law_15 23 rfl rfl)
theorem dL_law_496 : decode cL_law 496 = .ok (.iadd, 1) := dk_96 (dk_at dksL_law_16 0 rfl rfl)
theorem dL_law_497 : decode cL_law 497 = .ok (.iaload, 1) := dk_46 (dk_at dksL_law_16 1 rfl rfl)
theorem dL_law_498 : decode cL_law 498 = .ok (.invokevirtual 132, 3) := dk_182 0 132 (dk_at dksL_law_16 2 rfl rfl)
theorem dL_law_501 : decode cL_law 501 = .ok (.istore 6, 2) := dk_54 6 (dk_at dksL_law_16 5 rfl rfl)
theorem dL_law_503 : decode cL_law 503 = .ok (.aload_n 2, 1) := dk_44 (dk_at dksL_law_16 7 rfl rfl)
theorem dL_law_504 : decode cL_law 504 = .ok (.invokevirtual 114, 3) := dk_182 0 114 (dk_at dksL_law_16 8 rfl rfl)
theorem dL_law_507 : decode cL_law 507 = .ok (.iload 5, 2) := dk_21 5 (dk_at dksL_law_16 11 rfl rfl)
theorem dL_law_509 : decode cL_law 509 = .ok (.if_icmp .eq 5, 3) := dk_159 0 5 (dk_at dksL_law_16 13 rfl rfl)
theorem dL_law_512 : decode cL_law 512 = .ok (.iconst 0, 1) := dk_3 (dk_at dksL_law_16 16 rfl rfl)
theorem dL_law_513 : decode cL_law 513 = .ok (.ireturn, 1) := dk_172 (dk_at dksL_law_16 17 rfl rfl)
theorem dL_law_514 : decode cL_law 514 = .ok (.iload 5, 2) := dk_21 5 (dk_at dksL_law_16 18 rfl rfl)
theorem dL_law_516 : decode cL_law 516 = .ok (.ifCond .ne 15, 3) := dk_154 0 15 (dk_at dksL_law_16 20 rfl rfl)
theorem dL_law_519 : decode cL_law 519 = .ok (.aload_n 3, 1) := dk_45 (dk_at dksL_law_16 23 rfl rfl)
theorem dL_law_520 : decode cL_law 520 = .ok (.iconst 0, 1) := dk_3 (dk_at dksL_law_17 0 rfl rfl)
theorem dL_law_521 : decode cL_law 521 = .ok (.laload, 1) := dk_47 (dk_at dksL_law_17 1 rfl rfl)
theorem dL_law_522 : decode cL_law 522 = .ok (.iload 6, 2) := dk_21 6 (dk_at dksL_law_17 2 rfl rfl)
theorem dL_law_524 : decode cL_law 524 = .ok (.i2l, 1) := dk_133 (dk_at dksL_law_17 4 rfl rfl)
theorem dL_law_525 : decode cL_law 525 = .ok (.lcmp, 1) := dk_148 (dk_at dksL_law_17 5 rfl rfl)
theorem dL_law_526 : decode cL_law 526 = .ok (.ifCond .eq 5, 3) := dk_153 0 5 (dk_at dksL_law_17 6 rfl rfl)
theorem dL_law_529 : decode cL_law 529 = .ok (.iconst 0, 1) := dk_3 (dk_at dksL_law_17 9 rfl rfl)
theorem dL_law_530 : decode cL_law 530 = .ok (.ireturn, 1) := dk_172 (dk_at dksL_law_17 10 rfl rfl)
theorem dL_law_531 : decode cL_law 531 = .ok (.goto 1680, 3) := dk_167 6 144 (dk_at dksL_law_17 11 rfl rfl)
theorem dL_law_534 : decode cL_law 534 = .ok (.aload_n 1, 1) := dk_43 (dk_at dksL_law_17 14 rfl rfl)
theorem dL_law_535 : decode cL_law 535 = .ok (.aload_n 0, 1) := dk_42 (dk_at dksL_law_17 15 rfl rfl)
theorem dL_law_536 : decode cL_law 536 = .ok (.iload 4, 2) := dk_21 4 (dk_at dksL_law_17 16 rfl rfl)
theorem dL_law_538 : decode cL_law 538 = .ok (.iconst 1, 1) := dk_4 (dk_at dksL_law_17 18 rfl rfl)
theorem dL_law_539 : decode cL_law 539 = .ok (.iadd, 1) := dk_96 (dk_at dksL_law_17 19 rfl rfl)
theorem dL_law_540 : decode cL_law 540 = .ok (.iaload, 1) := dk_46 (dk_at dksL_law_17 20 rfl rfl)
theorem dL_law_541 : decode cL_law 541 = .ok (.aload_n 0, 1) := dk_42 (dk_at dksL_law_17 21 rfl rfl)
theorem dL_law_542 : decode cL_law 542 = .ok (.iload 4, 2) := dk_21 4 (dk_at dksL_law_17 22 rfl rfl)
theorem dL_law_544 : decode cL_law 544 = .ok (.iconst 2, 1) := dk_5 (dk_at dksL_law_18 0 rfl rfl)
theorem dL_law_545 : decode cL_law 545 = .ok (.iadd, 1) := dk_96 (dk_at dksL_law_18 1 rfl rfl)
theorem dL_law_546 : decode cL_law 546 = .ok (.iaload, 1) := dk_46 (dk_at dksL_law_18 2 rfl rfl)
theorem dL_law_547 : decode cL_law 547 = .ok (.aload_n 0, 1) := dk_42 (dk_at dksL_law_18 3 rfl rfl)
theorem dL_law_548 : decode cL_law 548 = .ok (.iload 4, 2) := dk_21 4 (dk_at dksL_law_18 4 rfl rfl)
theorem dL_law_550 : decode cL_law 550 = .ok (.iconst 3, 1) := dk_6 (dk_at dksL_law_18 6 rfl rfl)
theorem dL_law_551 : decode cL_law 551 = .ok (.iadd, 1) := dk_96 (dk_at dksL_law_18 7 rfl rfl)
theorem dL_law_552 : decode cL_law 552 = .ok (.iaload, 1) := dk_46 (dk_at dksL_law_18 8 rfl rfl)
theorem dL_law_553 : decode cL_law 553 = .ok (.aload_n 3, 1) := dk_45 (dk_at dksL_law_18 9 rfl rfl)
theorem dL_law_554 : decode cL_law 554 = .ok (.invokestatic 133, 3) := dk_184 0 133 (dk_at dksL_law_18 10 rfl rfl)
theorem dL_law_557 : decode cL_law 557 = .ok (.istore 5, 2) := dk_54 5 (dk_at dksL_law_18 13 rfl rfl)
theorem dL_law_559 : decode cL_law 559 = .ok (.aload_n 2, 1) := dk_44 (dk_at dksL_law_18 15 rfl rfl)
theorem dL_law_560 : decode cL_law 560 = .ok (.aload_n 0, 1) := dk_42 (dk_at dksL_law_18 16 rfl rfl)
theorem dL_law_561 : decode cL_law 561 = .ok (.iload 4, 2) := dk_21 4 (dk_at dksL_law_18 17 rfl rfl)
theorem dL_law_563 : decode cL_law 563 = .ok (.iconst 1, 1) := dk_4 (dk_at dksL_law_18 19 rfl rfl)
theorem dL_law_564 : decode cL_law 564 = .ok (.iadd, 1) := dk_96 (dk_at dksL_law_18 20 rfl rfl)
theorem dL_law_565 : decode cL_law 565 = .ok (.iaload, 1) := dk_46 (dk_at dksL_law_18 21 rfl rfl)
theorem dL_law_566 : decode cL_law 566 = .ok (.aload_n 0, 1) := dk_42 (dk_at dksL_law_18 22 rfl rfl)
theorem dL_law_567 : decode cL_law 567 = .ok (.iload 4, 2) := dk_21 4 (dk_at dksL_law_19 0 rfl rfl)
theorem dL_law_569 : decode cL_law 569 = .ok (.iconst 2, 1) := dk_5 (dk_at dksL_law_19 2 rfl rfl)
theorem dL_law_570 : decode cL_law 570 = .ok (.iadd, 1) := dk_96 (dk_at dksL_law_19 3 rfl rfl)
theorem dL_law_571 : decode cL_law 571 = .ok (.iaload, 1) := dk_46 (dk_at dksL_law_19 4 rfl rfl)
theorem dL_law_572 : decode cL_law 572 = .ok (.aload_n 0, 1) := dk_42 (dk_at dksL_law_19 5 rfl rfl)
theorem dL_law_573 : decode cL_law 573 = .ok (.iload 4, 2) := dk_21 4 (dk_at dksL_law_19 6 rfl rfl)
theorem dL_law_575 : decode cL_law 575 = .ok (.iconst 3, 1) := dk_6 (dk_at dksL_law_19 8 rfl rfl)
theorem dL_law_576 : decode cL_law 576 = .ok (.iadd, 1) := dk_96 (dk_at dksL_law_19 9 rfl rfl)
theorem dL_law_577 : decode cL_law 577 = .ok (.iaload, 1) := dk_46 (dk_at dksL_law_19 10 rfl rfl)
theorem dL_law_578 : decode cL_law 578 = .ok (.invokevirtual 135, 3) := dk_182 0 135 (dk_at dksL_law_19 11 rfl rfl)
theorem dL_law_581 : decode cL_law 581 = .ok (.istore 6, 2) := dk_54 6 (dk_at dksL_law_19 14 rfl rfl)
theorem dL_law_583 : decode cL_law 583 = .ok (.aload_n 2, 1) := dk_44 (dk_at dksL_law_19 16 rfl rfl)
theorem dL_law_584 : decode cL_law 584 = .ok (.invokevirtual 114, 3) := dk_182 0 114 (dk_at dksL_law_19 17 rfl rfl)
theorem dL_law_587 : decode cL_law 587 = .ok (.iload 5, 2) := dk_21 5 (dk_at dksL_law_19 20 rfl rfl)
theorem dL_law_589 : decode cL_law 589 = .ok (.if_icmp .eq 5, 3) := dk_159 0 5 (dk_at dksL_law_20 0 rfl rfl)
theorem dL_law_592 : decode cL_law 592 = .ok (.iconst 0, 1) := dk_3 (dk_at dksL_law_20 3 rfl rfl)
theorem dL_law_593 : decode cL_law 593 = .ok (.ireturn, 1) := dk_172 (dk_at dksL_law_20 4 rfl rfl)
theorem dL_law_594 : decode cL_law 594 = .ok (.iload 5, 2) := dk_21 5 (dk_at dksL_law_20 5 rfl rfl)
theorem dL_law_596 : decode cL_law 596 = .ok (.ifCond .ne 15, 3) := dk_154 0 15 (dk_at dksL_law_20 7 rfl rfl)
theorem dL_law_599 : decode cL_law 599 = .ok (.aload_n 3, 1) := dk_45 (dk_at dksL_law_20 10 rfl rfl)
theorem dL_law_600 : decode cL_law 600 = .ok (.iconst 0, 1) := dk_3 (dk_at dksL_law_20 11 rfl rfl)
theorem dL_law_601 : decode cL_law 601 = .ok (.laload, 1) := dk_47 (dk_at dksL_law_20 12 rfl rfl)
theorem dL_law_602 : decode cL_law 602 = .ok (.iload 6, 2) := dk_21 6 (dk_at dksL_law_20 13 rfl rfl)
theorem dL_law_604 : decode cL_law 604 = .ok (.i2l, 1) := dk_133 (dk_at dksL_law_20 15 rfl rfl)
theorem dL_law_605 : decode cL_law 605 = .ok (.lcmp, 1) := dk_148 (dk_at dksL_law_20 16 rfl rfl)
theorem dL_law_606 : decode cL_law 606 = .ok (.ifCond .eq 5, 3) := dk_153 0 5 (dk_at dksL_law_20 17 rfl rfl)
theorem dL_law_609 : decode cL_law 609 = .ok (.iconst 0, 1) := dk_3 (dk_at dksL_law_20 20 rfl rfl)
theorem dL_law_610 : decode cL_law 610 = .ok (.ireturn, 1) := dk_172 (dk_at dksL_law_20 21 rfl rfl)
theorem dL_law_611 : decode cL_law 611 = .ok (.goto 1600, 3) := dk_167 6 64 (dk_at dksL_law_21 0 rfl rfl)
theorem dL_law_614 : decode cL_law 614 = .ok (.aload_n 1, 1) := dk_43 (dk_at dksL_law_21 3 rfl rfl)
theorem dL_law_615 : decode cL_law 615 = .ok (.aload_n 0, 1) := dk_42 (dk_at dksL_law_21 4 rfl rfl)
theorem dL_law_616 : decode cL_law 616 = .ok (.iload 4, 2) := dk_21 4 (dk_at dksL_law_21 5 rfl rfl)
theorem dL_law_618 : decode cL_law 618 = .ok (.iconst 1, 1) := dk_4 (dk_at dksL_law_21 7 rfl rfl)
theorem dL_law_619 : decode cL_law 619 = .ok (.iadd, 1) := dk_96 (dk_at dksL_law_21 8 rfl rfl)
theorem dL_law_620 : decode cL_law 620 = .ok (.iaload, 1) := dk_46 (dk_at dksL_law_21 9 rfl rfl)
theorem dL_law_621 : decode cL_law 621 = .ok (.aload_n 0, 1) := dk_42 (dk_at dksL_law_21 10 rfl rfl)
theorem dL_law_622 : decode cL_law 622 = .ok (.iload 4, 2) := dk_21 4 (dk_at dksL_law_21 11 rfl rfl)
theorem dL_law_624 : decode cL_law 624 = .ok (.iconst 2, 1) := dk_5 (dk_at dksL_law_21 13 rfl rfl)
theorem dL_law_625 : decode cL_law 625 = .ok (.iadd, 1) := dk_96 (dk_at dksL_law_21 14 rfl rfl)
theorem dL_law_626 : decode cL_law 626 = .ok (.iaload, 1) := dk_46 (dk_at dksL_law_21 15 rfl rfl)
theorem dL_law_627 : decode cL_law 627 = .ok (.aload_n 3, 1) := dk_45 (dk_at dksL_law_21 16 rfl rfl)
theorem dL_law_628 : decode cL_law 628 = .ok (.invokestatic 136, 3) := dk_184 0 136 (dk_at dksL_law_21 17 rfl rfl)
theorem dL_law_631 : decode cL_law 631 = .ok (.istore 5, 2) := dk_54 5 (dk_at dksL_law_21 20 rfl rfl)
theorem dL_law_633 : decode cL_law 633 = .ok (.aload_n 2, 1) := dk_44 (dk_at dksL_law_21 22 rfl rfl)
theorem dL_law_634 : decode cL_law 634 = .ok (.aload_n 0, 1) := dk_42 (dk_at dksL_law_21 23 rfl rfl)
theorem dL_law_635 : decode cL_law 635 = .ok (.iload 4, 2) := dk_21 4 (dk_at dksL_law_22 0 rfl rfl)
theorem dL_law_637 : decode cL_law 637 = .ok (.iconst 1, 1) := dk_4 (dk_at dksL_law_22 2 rfl rfl)
theorem dL_law_638 : decode cL_law 638 = .ok (.iadd, 1) := dk_96 (dk_at dksL_law_22 3 rfl rfl)
theorem dL_law_639 : decode cL_law 639 = .ok (.iaload, 1) := dk_46 (dk_at dksL_law_22 4 rfl rfl)
theorem dL_law_640 : decode cL_law 640 = .ok (.aload_n 0, 1) := dk_42 (dk_at dksL_law_22 5 rfl rfl)
theorem dL_law_641 : decode cL_law 641 = .ok (.iload 4, 2) := dk_21 4 (dk_at dksL_law_22 6 rfl rfl)
theorem dL_law_643 : decode cL_law 643 = .ok (.iconst 2, 1) := dk_5 (dk_at dksL_law_22 8 rfl rfl)
theorem dL_law_644 : decode cL_law 644 = .ok (.iadd, 1) := dk_96 (dk_at dksL_law_22 9 rfl rfl)
theorem dL_law_645 : decode cL_law 645 = .ok (.iaload, 1) := dk_46 (dk_at dksL_law_22 10 rfl rfl)
theorem dL_law_646 : decode cL_law 646 = .ok (.invokevirtual 138, 3) := dk_182 0 138 (dk_at dksL_law_22 11 rfl rfl)
theorem dL_law_649 : decode cL_law 649 = .ok (.istore 6, 2) := dk_54 6 (dk_at dksL_law_22 14 rfl rfl)
theorem dL_law_651 : decode cL_law 651 = .ok (.aload_n 2, 1) := dk_44 (dk_at dksL_law_22 16 rfl rfl)
theorem dL_law_652 : decode cL_law 652 = .ok (.invokevirtual 114, 3) := dk_182 0 114 (dk_at dksL_law_22 17 rfl rfl)
theorem dL_law_655 : decode cL_law 655 = .ok (.iload 5, 2) := dk_21 5 (dk_at dksL_law_22 20 rfl rfl)
theorem dL_law_657 : decode cL_law 657 = .ok (.if_icmp .eq 5, 3) := dk_159 0 5 (dk_at dksL_law_23 0 rfl rfl)
theorem dL_law_660 : decode cL_law 660 = .ok (.iconst 0, 1) := dk_3 (dk_at dksL_law_23 3 rfl rfl)
theorem dL_law_661 : decode cL_law 661 = .ok (.ireturn, 1) := dk_172 (dk_at dksL_law_23 4 rfl rfl)
theorem dL_law_662 : decode cL_law 662 = .ok (.iload 5, 2) := dk_21 5 (dk_at dksL_law_23 5 rfl rfl)
theorem dL_law_664 : decode cL_law 664 = .ok (.ifCond .ne 15, 3) := dk_154 0 15 (dk_at dksL_law_23 7 rfl rfl)
theorem dL_law_667 : decode cL_law 667 = .ok (.aload_n 3, 1) := dk_45 (dk_at dksL_law_23 10 rfl rfl)
theorem dL_law_668 : decode cL_law 668 = .ok (.iconst 0, 1) := dk_3 (dk_at dksL_law_23 11 rfl rfl)
theorem dL_law_669 : decode cL_law 669 = .ok (.laload, 1) := dk_47 (dk_at dksL_law_23 12 rfl rfl)
theorem dL_law_670 : decode cL_law 670 = .ok (.iload 6, 2) := dk_21 6 (dk_at dksL_law_23 13 rfl rfl)
theorem dL_law_672 : decode cL_law 672 = .ok (.i2l, 1) := dk_133 (dk_at dksL_law_23 15 rfl rfl)
theorem dL_law_673 : decode cL_law 673 = .ok (.lcmp, 1) := dk_148 (dk_at dksL_law_23 16 rfl rfl)
theorem dL_law_674 : decode cL_law 674 = .ok (.ifCond .eq 5, 3) := dk_153 0 5 (dk_at dksL_law_23 17 rfl rfl)
theorem dL_law_677 : decode cL_law 677 = .ok (.iconst 0, 1) := dk_3 (dk_at dksL_law_23 20 rfl rfl)
theorem dL_law_678 : decode cL_law 678 = .ok (.ireturn, 1) := dk_172 (dk_at dksL_law_23 21 rfl rfl)
theorem dL_law_679 : decode cL_law 679 = .ok (.goto 1532, 3) := dk_167 5 252 (dk_at dksL_law_24 0 rfl rfl)
theorem dL_law_682 : decode cL_law 682 = .ok (.aload_n 1, 1) := dk_43 (dk_at dksL_law_24 3 rfl rfl)
theorem dL_law_683 : decode cL_law 683 = .ok (.aload_n 0, 1) := dk_42 (dk_at dksL_law_24 4 rfl rfl)
theorem dL_law_684 : decode cL_law 684 = .ok (.iload 4, 2) := dk_21 4 (dk_at dksL_law_24 5 rfl rfl)
theorem dL_law_686 : decode cL_law 686 = .ok (.iconst 1, 1) := dk_4 (dk_at dksL_law_24 7 rfl rfl)
theorem dL_law_687 : decode cL_law 687 = .ok (.iadd, 1) := dk_96 (dk_at dksL_law_24 8 rfl rfl)
theorem dL_law_688 : decode cL_law 688 = .ok (.iaload, 1) := dk_46 (dk_at dksL_law_24 9 rfl rfl)
theorem dL_law_689 : decode cL_law 689 = .ok (.aload_n 0, 1) := dk_42 (dk_at dksL_law_24 10 rfl rfl)
theorem dL_law_690 : decode cL_law 690 = .ok (.iload 4, 2) := dk_21 4 (dk_at dksL_law_24 11 rfl rfl)
theorem dL_law_692 : decode cL_law 692 = .ok (.iconst 2, 1) := dk_5 (dk_at dksL_law_24 13 rfl rfl)
theorem dL_law_693 : decode cL_law 693 = .ok (.iadd, 1) := dk_96 (dk_at dksL_law_24 14 rfl rfl)
theorem dL_law_694 : decode cL_law 694 = .ok (.iaload, 1) := dk_46 (dk_at dksL_law_24 15 rfl rfl)
theorem dL_law_695 : decode cL_law 695 = .ok (.aload_n 3, 1) := dk_45 (dk_at dksL_law_24 16 rfl rfl)
theorem dL_law_696 : decode cL_law 696 = .ok (.invokestatic 139, 3) := dk_184 0 139 (dk_at dksL_law_24 17 rfl rfl)
theorem dL_law_699 : decode cL_law 699 = .ok (.istore 5, 2) := dk_54 5 (dk_at dksL_law_24 20 rfl rfl)
theorem dL_law_701 : decode cL_law 701 = .ok (.aload_n 2, 1) := dk_44 (dk_at dksL_law_24 22 rfl rfl)
theorem dL_law_702 : decode cL_law 702 = .ok (.aload_n 0, 1) := dk_42 (dk_at dksL_law_24 23 rfl rfl)
theorem dL_law_703 : decode cL_law 703 = .ok (.iload 4, 2) := dk_21 4 (dk_at dksL_law_25 0 rfl rfl)
theorem dL_law_705 : decode cL_law 705 = .ok (.iconst 1, 1) := dk_4 (dk_at dksL_law_25 2 rfl rfl)
theorem dL_law_706 : decode cL_law 706 = .ok (.iadd, 1) := dk_96 (dk_at dksL_law_25 3 rfl rfl)
theorem dL_law_707 : decode cL_law 707 = .ok (.iaload, 1) := dk_46 (dk_at dksL_law_25 4 rfl rfl)
theorem dL_law_708 : decode cL_law 708 = .ok (.aload_n 0, 1) := dk_42 (dk_at dksL_law_25 5 rfl rfl)
theorem dL_law_709 : decode cL_law 709 = .ok (.iload 4, 2) := dk_21 4 (dk_at dksL_law_25 6 rfl rfl)
theorem dL_law_711 : decode cL_law 711 = .ok (.iconst 2, 1) := dk_5 (dk_at dksL_law_25 8 rfl rfl)
theorem dL_law_712 : decode cL_law 712 = .ok (.iadd, 1) := dk_96 (dk_at dksL_law_25 9 rfl rfl)
theorem dL_law_713 : decode cL_law 713 = .ok (.iaload, 1) := dk_46 (dk_at dksL_law_25 10 rfl rfl)
theorem dL_law_714 : decode cL_law 714 = .ok (.invokevirtual 141, 3) := dk_182 0 141 (dk_at dksL_law_25 11 rfl rfl)
theorem dL_law_717 : decode cL_law 717 = .ok (.istore 6, 2) := dk_54 6 (dk_at dksL_law_25 14 rfl rfl)
theorem dL_law_719 : decode cL_law 719 = .ok (.aload_n 2, 1) := dk_44 (dk_at dksL_law_25 16 rfl rfl)
theorem dL_law_720 : decode cL_law 720 = .ok (.invokevirtual 114, 3) := dk_182 0 114 (dk_at dksL_law_25 17 rfl rfl)
theorem dL_law_723 : decode cL_law 723 = .ok (.iload 5, 2) := dk_21 5 (dk_at dksL_law_25 20 rfl rfl)
theorem dL_law_725 : decode cL_law 725 = .ok (.if_icmp .eq 5, 3) := dk_159 0 5 (dk_at dksL_law_26 0 rfl rfl)
theorem dL_law_728 : decode cL_law 728 = .ok (.iconst 0, 1) := dk_3 (dk_at dksL_law_26 3 rfl rfl)
theorem dL_law_729 : decode cL_law 729 = .ok (.ireturn, 1) := dk_172 (dk_at dksL_law_26 4 rfl rfl)
theorem dL_law_730 : decode cL_law 730 = .ok (.iload 5, 2) := dk_21 5 (dk_at dksL_law_26 5 rfl rfl)
theorem dL_law_732 : decode cL_law 732 = .ok (.ifCond .ne 15, 3) := dk_154 0 15 (dk_at dksL_law_26 7 rfl rfl)
theorem dL_law_735 : decode cL_law 735 = .ok (.aload_n 3, 1) := dk_45 (dk_at dksL_law_26 10 rfl rfl)
theorem dL_law_736 : decode cL_law 736 = .ok (.iconst 0, 1) := dk_3 (dk_at dksL_law_26 11 rfl rfl)
theorem dL_law_737 : decode cL_law 737 = .ok (.laload, 1) := dk_47 (dk_at dksL_law_26 12 rfl rfl)
theorem dL_law_738 : decode cL_law 738 = .ok (.iload 6, 2) := dk_21 6 (dk_at dksL_law_26 13 rfl rfl)
theorem dL_law_740 : decode cL_law 740 = .ok (.i2l, 1) := dk_133 (dk_at dksL_law_26 15 rfl rfl)
theorem dL_law_741 : decode cL_law 741 = .ok (.lcmp, 1) := dk_148 (dk_at dksL_law_26 16 rfl rfl)
theorem dL_law_742 : decode cL_law 742 = .ok (.ifCond .eq 5, 3) := dk_153 0 5 (dk_at dksL_law_26 17 rfl rfl)
theorem dL_law_745 : decode cL_law 745 = .ok (.iconst 0, 1) := dk_3 (dk_at dksL_law_26 20 rfl rfl)
theorem dL_law_746 : decode cL_law 746 = .ok (.ireturn, 1) := dk_172 (dk_at dksL_law_26 21 rfl rfl)
theorem dL_law_747 : decode cL_law 747 = .ok (.goto 1464, 3) := dk_167 5 184 (dk_at dksL_law_27 0 rfl rfl)
theorem dL_law_750 : decode cL_law 750 = .ok (.aload_n 1, 1) := dk_43 (dk_at dksL_law_27 3 rfl rfl)
theorem dL_law_751 : decode cL_law 751 = .ok (.aload_n 0, 1) := dk_42 (dk_at dksL_law_27 4 rfl rfl)
theorem dL_law_752 : decode cL_law 752 = .ok (.iload 4, 2) := dk_21 4 (dk_at dksL_law_27 5 rfl rfl)
theorem dL_law_754 : decode cL_law 754 = .ok (.iconst 1, 1) := dk_4 (dk_at dksL_law_27 7 rfl rfl)
theorem dL_law_755 : decode cL_law 755 = .ok (.iadd, 1) := dk_96 (dk_at dksL_law_27 8 rfl rfl)
theorem dL_law_756 : decode cL_law 756 = .ok (.iaload, 1) := dk_46 (dk_at dksL_law_27 9 rfl rfl)
theorem dL_law_757 : decode cL_law 757 = .ok (.aload_n 0, 1) := dk_42 (dk_at dksL_law_27 10 rfl rfl)
theorem dL_law_758 : decode cL_law 758 = .ok (.iload 4, 2) := dk_21 4 (dk_at dksL_law_27 11 rfl rfl)
theorem dL_law_760 : decode cL_law 760 = .ok (.iconst 2, 1) := dk_5 (dk_at dksL_law_27 13 rfl rfl)
theorem dL_law_761 : decode cL_law 761 = .ok (.iadd, 1) := dk_96 (dk_at dksL_law_27 14 rfl rfl)
theorem dL_law_762 : decode cL_law 762 = .ok (.iaload, 1) := dk_46 (dk_at dksL_law_27 15 rfl rfl)
theorem dL_law_763 : decode cL_law 763 = .ok (.aload_n 0, 1) := dk_42 (dk_at dksL_law_27 16 rfl rfl)
theorem dL_law_764 : decode cL_law 764 = .ok (.iload 4, 2) := dk_21 4 (dk_at dksL_law_27 17 rfl rfl)
theorem dL_law_766 : decode cL_law 766 = .ok (.iconst 3, 1) := dk_6 (dk_at dksL_law_27 19 rfl rfl)
theorem dL_law_767 : decode cL_law 767 = .ok (.iadd, 1) := dk_96 (dk_at dksL_law_27 20 rfl rfl)
theorem dL_law_768 : decode cL_law 768 = .ok (.iaload, 1) := dk_46 (dk_at dksL_law_27 21 rfl rfl)
theorem dL_law_769 : decode cL_law 769 = .ok (.aload_n 3, 1) := dk_45 (dk_at dksL_law_27 22 rfl rfl)
theorem dL_law_770 : decode cL_law 770 = .ok (.invokestatic 142, 3) := dk_184 0 142 (dk_at dksL_law_28 0 rfl rfl)
theorem dL_law_773 : decode cL_law 773 = .ok (.istore 5, 2) := dk_54 5 (dk_at dksL_law_28 3 rfl rfl)
theorem dL_law_775 : decode cL_law 775 = .ok (.aload_n 2, 1) := dk_44 (dk_at dksL_law_28 5 rfl rfl)
theorem dL_law_776 : decode cL_law 776 = .ok (.aload_n 0, 1) := dk_42 (dk_at dksL_law_28 6 rfl rfl)
theorem dL_law_777 : decode cL_law 777 = .ok (.iload 4, 2) := dk_21 4 (dk_at dksL_law_28 7 rfl rfl)
theorem dL_law_779 : decode cL_law 779 = .ok (.iconst 1, 1) := dk_4 (dk_at dksL_law_28 9 rfl rfl)
theorem dL_law_780 : decode cL_law 780 = .ok (.iadd, 1) := dk_96 (dk_at dksL_law_28 10 rfl rfl)
theorem dL_law_781 : decode cL_law 781 = .ok (.iaload, 1) := dk_46 (dk_at dksL_law_28 11 rfl rfl)
theorem dL_law_782 : decode cL_law 782 = .ok (.aload_n 0, 1) := dk_42 (dk_at dksL_law_28 12 rfl rfl)
theorem dL_law_783 : decode cL_law 783 = .ok (.iload 4, 2) := dk_21 4 (dk_at dksL_law_28 13 rfl rfl)
theorem dL_law_785 : decode cL_law 785 = .ok (.iconst 2, 1) := dk_5 (dk_at dksL_law_28 15 rfl rfl)
theorem dL_law_786 : decode cL_law 786 = .ok (.iadd, 1) := dk_96 (dk_at dksL_law_28 16 rfl rfl)
theorem dL_law_787 : decode cL_law 787 = .ok (.iaload, 1) := dk_46 (dk_at dksL_law_28 17 rfl rfl)
theorem dL_law_788 : decode cL_law 788 = .ok (.aload_n 0, 1) := dk_42 (dk_at dksL_law_28 18 rfl rfl)
theorem dL_law_789 : decode cL_law 789 = .ok (.iload 4, 2) := dk_21 4 (dk_at dksL_law_28 19 rfl rfl)
theorem dL_law_791 : decode cL_law 791 = .ok (.iconst 3, 1) := dk_6 (dk_at dksL_law_28 21 rfl rfl)
theorem dL_law_792 : decode cL_law 792 = .ok (.iadd, 1) := dk_96 (dk_at dksL_law_28 22 rfl rfl)
theorem dL_law_793 : decode cL_law 793 = .ok (.iaload, 1) := dk_46 (dk_at dksL_law_28 23 rfl rfl)
theorem dL_law_794 : decode cL_law 794 = .ok (.invokevirtual 144, 3) := dk_182 0 144 (dk_at dksL_law_29 0 rfl rfl)
theorem dL_law_797 : decode cL_law 797 = .ok (.istore 6, 2) := dk_54 6 (dk_at dksL_law_29 3 rfl rfl)
theorem dL_law_799 : decode cL_law 799 = .ok (.aload_n 2, 1) := dk_44 (dk_at dksL_law_29 5 rfl rfl)
theorem dL_law_800 : decode cL_law 800 = .ok (.invokevirtual 114, 3) := dk_182 0 114 (dk_at dksL_law_29 6 rfl rfl)
theorem dL_law_803 : decode cL_law 803 = .ok (.iload 5, 2) := dk_21 5 (dk_at dksL_law_29 9 rfl rfl)
theorem dL_law_805 : decode cL_law 805 = .ok (.if_icmp .eq 5, 3) := dk_159 0 5 (dk_at dksL_law_29 11 rfl rfl)
theorem dL_law_808 : decode cL_law 808 = .ok (.iconst 0, 1) := dk_3 (dk_at dksL_law_29 14 rfl rfl)
theorem dL_law_809 : decode cL_law 809 = .ok (.ireturn, 1) := dk_172 (dk_at dksL_law_29 15 rfl rfl)
theorem dL_law_810 : decode cL_law 810 = .ok (.iload 5, 2) := dk_21 5 (dk_at dksL_law_29 16 rfl rfl)
theorem dL_law_812 : decode cL_law 812 = .ok (.ifCond .ne 15, 3) := dk_154 0 15 (dk_at dksL_law_29 18 rfl rfl)
theorem dL_law_815 : decode cL_law 815 = .ok (.aload_n 3, 1) := dk_45 (dk_at dksL_law_29 21 rfl rfl)
theorem dL_law_816 : decode cL_law 816 = .ok (.iconst 0, 1) := dk_3 (dk_at dksL_law_29 22 rfl rfl)
theorem dL_law_817 : decode cL_law 817 = .ok (.laload, 1) := dk_47 (dk_at dksL_law_29 23 rfl rfl)
theorem dL_law_818 : decode cL_law 818 = .ok (.iload 6, 2) := dk_21 6 (dk_at dksL_law_30 0 rfl rfl)
theorem dL_law_820 : decode cL_law 820 = .ok (.i2l, 1) := dk_133 (dk_at dksL_law_30 2 rfl rfl)
theorem dL_law_821 : decode cL_law 821 = .ok (.lcmp, 1) := dk_148 (dk_at dksL_law_30 3 rfl rfl)
theorem dL_law_822 : decode cL_law 822 = .ok (.ifCond .eq 5, 3) := dk_153 0 5 (dk_at dksL_law_30 4 rfl rfl)
theorem dL_law_825 : decode cL_law 825 = .ok (.iconst 0, 1) := dk_3 (dk_at dksL_law_30 7 rfl rfl)
theorem dL_law_826 : decode cL_law 826 = .ok (.ireturn, 1) := dk_172 (dk_at dksL_law_30 8 rfl rfl)
theorem dL_law_827 : decode cL_law 827 = .ok (.goto 1384, 3) := dk_167 5 104 (dk_at dksL_law_30 9 rfl rfl)
theorem dL_law_830 : decode cL_law 830 = .ok (.aload_n 1, 1) := dk_43 (dk_at dksL_law_30 12 rfl rfl)
theorem dL_law_831 : decode cL_law 831 = .ok (.aload_n 0, 1) := dk_42 (dk_at dksL_law_30 13 rfl rfl)
theorem dL_law_832 : decode cL_law 832 = .ok (.iload 4, 2) := dk_21 4 (dk_at dksL_law_30 14 rfl rfl)
theorem dL_law_834 : decode cL_law 834 = .ok (.iconst 1, 1) := dk_4 (dk_at dksL_law_30 16 rfl rfl)
theorem dL_law_835 : decode cL_law 835 = .ok (.iadd, 1) := dk_96 (dk_at dksL_law_30 17 rfl rfl)
theorem dL_law_836 : decode cL_law 836 = .ok (.iaload, 1) := dk_46 (dk_at dksL_law_30 18 rfl rfl)
theorem dL_law_837 : decode cL_law 837 = .ok (.aload_n 0, 1) := dk_42 (dk_at dksL_law_30 19 rfl rfl)
theorem dL_law_838 : decode cL_law 838 = .ok (.iload 4, 2) := dk_21 4 (dk_at dksL_law_30 20 rfl rfl)
theorem dL_law_840 : decode cL_law 840 = .ok (.iconst 2, 1) := dk_5 (dk_at dksL_law_30 22 rfl rfl)
theorem dL_law_841 : decode cL_law 841 = .ok (.iadd, 1) := dk_96 (dk_at dksL_law_30 23 rfl rfl)
theorem dL_law_842 : decode cL_law 842 = .ok (.iaload, 1) := dk_46 (dk_at dksL_law_31 0 rfl rfl)
theorem dL_law_843 : decode cL_law 843 = .ok (.aload_n 3, 1) := dk_45 (dk_at dksL_law_31 1 rfl rfl)
theorem dL_law_844 : decode cL_law 844 = .ok (.invokestatic 145, 3) := dk_184 0 145 (dk_at dksL_law_31 2 rfl rfl)
theorem dL_law_847 : decode cL_law 847 = .ok (.istore 5, 2) := dk_54 5 (dk_at dksL_law_31 5 rfl rfl)
theorem dL_law_849 : decode cL_law 849 = .ok (.aload_n 2, 1) := dk_44 (dk_at dksL_law_31 7 rfl rfl)
theorem dL_law_850 : decode cL_law 850 = .ok (.aload_n 0, 1) := dk_42 (dk_at dksL_law_31 8 rfl rfl)
theorem dL_law_851 : decode cL_law 851 = .ok (.iload 4, 2) := dk_21 4 (dk_at dksL_law_31 9 rfl rfl)
theorem dL_law_853 : decode cL_law 853 = .ok (.iconst 1, 1) := dk_4 (dk_at dksL_law_31 11 rfl rfl)
theorem dL_law_854 : decode cL_law 854 = .ok (.iadd, 1) := dk_96 (dk_at dksL_law_31 12 rfl rfl)
theorem dL_law_855 : decode cL_law 855 = .ok (.iaload, 1) := dk_46 (dk_at dksL_law_31 13 rfl rfl)
theorem dL_law_856 : decode cL_law 856 = .ok (.aload_n 0, 1) := dk_42 (dk_at dksL_law_31 14 rfl rfl)
theorem dL_law_857 : decode cL_law 857 = .ok (.iload 4, 2) := dk_21 4 (dk_at dksL_law_31 15 rfl rfl)
theorem dL_law_859 : decode cL_law 859 = .ok (.iconst 2, 1) := dk_5 (dk_at dksL_law_31 17 rfl rfl)
theorem dL_law_860 : decode cL_law 860 = .ok (.iadd, 1) := dk_96 (dk_at dksL_law_31 18 rfl rfl)
theorem dL_law_861 : decode cL_law 861 = .ok (.iaload, 1) := dk_46 (dk_at dksL_law_31 19 rfl rfl)
theorem dL_law_862 : decode cL_law 862 = .ok (.invokevirtual 147, 3) := dk_182 0 147 (dk_at dksL_law_31 20 rfl rfl)
theorem dL_law_865 : decode cL_law 865 = .ok (.istore 6, 2) := dk_54 6 (dk_at dksL_law_32 0 rfl rfl)
theorem dL_law_867 : decode cL_law 867 = .ok (.aload_n 2, 1) := dk_44 (dk_at dksL_law_32 2 rfl rfl)
theorem dL_law_868 : decode cL_law 868 = .ok (.invokevirtual 114, 3) := dk_182 0 114 (dk_at dksL_law_32 3 rfl rfl)
theorem dL_law_871 : decode cL_law 871 = .ok (.iload 5, 2) := dk_21 5 (dk_at dksL_law_32 6 rfl rfl)
theorem dL_law_873 : decode cL_law 873 = .ok (.if_icmp .eq 5, 3) := dk_159 0 5 (dk_at dksL_law_32 8 rfl rfl)
theorem dL_law_876 : decode cL_law 876 = .ok (.iconst 0, 1) := dk_3 (dk_at dksL_law_32 11 rfl rfl)
theorem dL_law_877 : decode cL_law 877 = .ok (.ireturn, 1) := dk_172 (dk_at dksL_law_32 12 rfl rfl)
theorem dL_law_878 : decode cL_law 878 = .ok (.iload 5, 2) := dk_21 5 (dk_at dksL_law_32 13 rfl rfl)
theorem dL_law_880 : decode cL_law 880 = .ok (.ifCond .ne 15, 3) := dk_154 0 15 (dk_at dksL_law_32 15 rfl rfl)
theorem dL_law_883 : decode cL_law 883 = .ok (.aload_n 3, 1) := dk_45 (dk_at dksL_law_32 18 rfl rfl)
theorem dL_law_884 : decode cL_law 884 = .ok (.iconst 0, 1) := dk_3 (dk_at dksL_law_32 19 rfl rfl)
theorem dL_law_885 : decode cL_law 885 = .ok (.laload, 1) := dk_47 (dk_at dksL_law_32 20 rfl rfl)
theorem dL_law_886 : decode cL_law 886 = .ok (.iload 6, 2) := dk_21 6 (dk_at dksL_law_32 21 rfl rfl)
theorem dL_law_888 : decode cL_law 888 = .ok (.i2l, 1) := dk_133 (dk_at dksL_law_32 23 rfl rfl)
theorem dL_law_889 : decode cL_law 889 = .ok (.lcmp, 1) := dk_148 (dk_at dksL_law_33 0 rfl rfl)
theorem dL_law_890 : decode cL_law 890 = .ok (.ifCond .eq 5, 3) := dk_153 0 5 (dk_at dksL_law_33 1 rfl rfl)
theorem dL_law_893 : decode cL_law 893 = .ok (.iconst 0, 1) := dk_3 (dk_at dksL_law_33 4 rfl rfl)
theorem dL_law_894 : decode cL_law 894 = .ok (.ireturn, 1) := dk_172 (dk_at dksL_law_33 5 rfl rfl)
theorem dL_law_895 : decode cL_law 895 = .ok (.goto 1316, 3) := dk_167 5 36 (dk_at dksL_law_33 6 rfl rfl)
theorem dL_law_898 : decode cL_law 898 = .ok (.aload_n 1, 1) := dk_43 (dk_at dksL_law_33 9 rfl rfl)
theorem dL_law_899 : decode cL_law 899 = .ok (.aload_n 0, 1) := dk_42 (dk_at dksL_law_33 10 rfl rfl)
theorem dL_law_900 : decode cL_law 900 = .ok (.iload 4, 2) := dk_21 4 (dk_at dksL_law_33 11 rfl rfl)
theorem dL_law_902 : decode cL_law 902 = .ok (.iconst 1, 1) := dk_4 (dk_at dksL_law_33 13 rfl rfl)
theorem dL_law_903 : decode cL_law 903 = .ok (.iadd, 1) := dk_96 (dk_at dksL_law_33 14 rfl rfl)
theorem dL_law_904 : decode cL_law 904 = .ok (.iaload, 1) := dk_46 (dk_at dksL_law_33 15 rfl rfl)
theorem dL_law_905 : decode cL_law 905 = .ok (.aload_n 0, 1) := dk_42 (dk_at dksL_law_33 16 rfl rfl)
theorem dL_law_906 : decode cL_law 906 = .ok (.iload 4, 2) := dk_21 4 (dk_at dksL_law_33 17 rfl rfl)
theorem dL_law_908 : decode cL_law 908 = .ok (.iconst 2, 1) := dk_5 (dk_at dksL_law_33 19 rfl rfl)
theorem dL_law_909 : decode cL_law 909 = .ok (.iadd, 1) := dk_96 (dk_at dksL_law_33 20 rfl rfl)
theorem dL_law_910 : decode cL_law 910 = .ok (.iaload, 1) := dk_46 (dk_at dksL_law_33 21 rfl rfl)
theorem dL_law_911 : decode cL_law 911 = .ok (.aload_n 3, 1) := dk_45 (dk_at dksL_law_33 22 rfl rfl)
theorem dL_law_912 : decode cL_law 912 = .ok (.invokestatic 148, 3) := dk_184 0 148 (dk_at dksL_law_34 0 rfl rfl)
theorem dL_law_915 : decode cL_law 915 = .ok (.istore 5, 2) := dk_54 5 (dk_at dksL_law_34 3 rfl rfl)
theorem dL_law_917 : decode cL_law 917 = .ok (.aload_n 2, 1) := dk_44 (dk_at dksL_law_34 5 rfl rfl)
theorem dL_law_918 : decode cL_law 918 = .ok (.aload_n 0, 1) := dk_42 (dk_at dksL_law_34 6 rfl rfl)
theorem dL_law_919 : decode cL_law 919 = .ok (.iload 4, 2) := dk_21 4 (dk_at dksL_law_34 7 rfl rfl)
theorem dL_law_921 : decode cL_law 921 = .ok (.iconst 1, 1) := dk_4 (dk_at dksL_law_34 9 rfl rfl)
theorem dL_law_922 : decode cL_law 922 = .ok (.iadd, 1) := dk_96 (dk_at dksL_law_34 10 rfl rfl)
theorem dL_law_923 : decode cL_law 923 = .ok (.iaload, 1) := dk_46 (dk_at dksL_law_34 11 rfl rfl)
theorem dL_law_924 : decode cL_law 924 = .ok (.aload_n 0, 1) := dk_42 (dk_at dksL_law_34 12 rfl rfl)
theorem dL_law_925 : decode cL_law 925 = .ok (.iload 4, 2) := dk_21 4 (dk_at dksL_law_34 13 rfl rfl)
theorem dL_law_927 : decode cL_law 927 = .ok (.iconst 2, 1) := dk_5 (dk_at dksL_law_34 15 rfl rfl)
theorem dL_law_928 : decode cL_law 928 = .ok (.iadd, 1) := dk_96 (dk_at dksL_law_34 16 rfl rfl)
theorem dL_law_929 : decode cL_law 929 = .ok (.iaload, 1) := dk_46 (dk_at dksL_law_34 17 rfl rfl)
theorem dL_law_930 : decode cL_law 930 = .ok (.invokevirtual 150, 3) := dk_182 0 150 (dk_at dksL_law_34 18 rfl rfl)
theorem dL_law_933 : decode cL_law 933 = .ok (.istore 6, 2) := dk_54 6 (dk_at dksL_law_34 21 rfl rfl)
theorem dL_law_935 : decode cL_law 935 = .ok (.aload_n 2, 1) := dk_44 (dk_at dksL_law_34 23 rfl rfl)
theorem dL_law_936 : decode cL_law 936 = .ok (.invokevirtual 114, 3) := dk_182 0 114 (dk_at dksL_law_35 0 rfl rfl)
theorem dL_law_939 : decode cL_law 939 = .ok (.iload 5, 2) := dk_21 5 (dk_at dksL_law_35 3 rfl rfl)
theorem dL_law_941 : decode cL_law 941 = .ok (.if_icmp .eq 5, 3) := dk_159 0 5 (dk_at dksL_law_35 5 rfl rfl)
theorem dL_law_944 : decode cL_law 944 = .ok (.iconst 0, 1) := dk_3 (dk_at dksL_law_35 8 rfl rfl)
theorem dL_law_945 : decode cL_law 945 = .ok (.ireturn, 1) := dk_172 (dk_at dksL_law_35 9 rfl rfl)
theorem dL_law_946 : decode cL_law 946 = .ok (.iload 5, 2) := dk_21 5 (dk_at dksL_law_35 10 rfl rfl)
theorem dL_law_948 : decode cL_law 948 = .ok (.ifCond .ne 15, 3) := dk_154 0 15 (dk_at dksL_law_35 12 rfl rfl)
theorem dL_law_951 : decode cL_law 951 = .ok (.aload_n 3, 1) := dk_45 (dk_at dksL_law_35 15 rfl rfl)
theorem dL_law_952 : decode cL_law 952 = .ok (.iconst 0, 1) := dk_3 (dk_at dksL_law_35 16 rfl rfl)
theorem dL_law_953 : decode cL_law 953 = .ok (.laload, 1) := dk_47 (dk_at dksL_law_35 17 rfl rfl)
theorem dL_law_954 : decode cL_law 954 = .ok (.iload 6, 2) := dk_21 6 (dk_at dksL_law_35 18 rfl rfl)
theorem dL_law_956 : decode cL_law 956 = .ok (.i2l, 1) := dk_133 (dk_at dksL_law_35 20 rfl rfl)
theorem dL_law_957 : decode cL_law 957 = .ok (.lcmp, 1) := dk_148 (dk_at dksL_law_35 21 rfl rfl)
theorem dL_law_958 : decode cL_law 958 = .ok (.ifCond .eq 5, 3) := dk_153 0 5 (dk_at dksL_law_36 0 rfl rfl)
theorem dL_law_961 : decode cL_law 961 = .ok (.iconst 0, 1) := dk_3 (dk_at dksL_law_36 3 rfl rfl)
theorem dL_law_962 : decode cL_law 962 = .ok (.ireturn, 1) := dk_172 (dk_at dksL_law_36 4 rfl rfl)
theorem dL_law_963 : decode cL_law 963 = .ok (.goto 1248, 3) := dk_167 4 224 (dk_at dksL_law_36 5 rfl rfl)
theorem dL_law_966 : decode cL_law 966 = .ok (.aload_n 1, 1) := dk_43 (dk_at dksL_law_36 8 rfl rfl)
theorem dL_law_967 : decode cL_law 967 = .ok (.aload_n 0, 1) := dk_42 (dk_at dksL_law_36 9 rfl rfl)
theorem dL_law_968 : decode cL_law 968 = .ok (.iload 4, 2) := dk_21 4 (dk_at dksL_law_36 10 rfl rfl)
theorem dL_law_970 : decode cL_law 970 = .ok (.iconst 1, 1) := dk_4 (dk_at dksL_law_36 12 rfl rfl)
theorem dL_law_971 : decode cL_law 971 = .ok (.iadd, 1) := dk_96 (dk_at dksL_law_36 13 rfl rfl)
theorem dL_law_972 : decode cL_law 972 = .ok (.iaload, 1) := dk_46 (dk_at dksL_law_36 14 rfl rfl)
theorem dL_law_973 : decode cL_law 973 = .ok (.aload_n 0, 1) := dk_42 (dk_at dksL_law_36 15 rfl rfl)
theorem dL_law_974 : decode cL_law 974 = .ok (.iload 4, 2) := dk_21 4 (dk_at dksL_law_36 16 rfl rfl)
theorem dL_law_976 : decode cL_law 976 = .ok (.iconst 2, 1) := dk_5 (dk_at dksL_law_36 18 rfl rfl)
theorem dL_law_977 : decode cL_law 977 = .ok (.iadd, 1) := dk_96 (dk_at dksL_law_36 19 rfl rfl)
theorem dL_law_978 : decode cL_law 978 = .ok (.iaload, 1) := dk_46 (dk_at dksL_law_36 20 rfl rfl)
theorem dL_law_979 : decode cL_law 979 = .ok (.aload_n 3, 1) := dk_45 (dk_at dksL_law_36 21 rfl rfl)
theorem dL_law_980 : decode cL_law 980 = .ok (.invokestatic 151, 3) := dk_184 0 151 (dk_at dksL_law_37 0 rfl rfl)
theorem dL_law_983 : decode cL_law 983 = .ok (.istore 5, 2) := dk_54 5 (dk_at dksL_law_37 3 rfl rfl)
theorem dL_law_985 : decode cL_law 985 = .ok (.aload_n 2, 1) := dk_44 (dk_at dksL_law_37 5 rfl rfl)
theorem dL_law_986 : decode cL_law 986 = .ok (.aload_n 0, 1) := dk_42 (dk_at dksL_law_37 6 rfl rfl)
theorem dL_law_987 : decode cL_law 987 = .ok (.iload 4, 2) := dk_21 4 (dk_at dksL_law_37 7 rfl rfl)
theorem dL_law_989 : decode cL_law 989 = .ok (.iconst 1, 1) := dk_4 (dk_at dksL_law_37 9 rfl rfl)
theorem dL_law_990 : decode cL_law 990 = .ok (.iadd, 1) := dk_96 (dk_at dksL_law_37 10 rfl rfl)
theorem dL_law_991 : decode cL_law 991 = .ok (.iaload, 1) := dk_46 (dk_at dksL_law_37 11 rfl rfl)
theorem dL_law_992 : decode cL_law 992 = .ok (.aload_n 0, 1) := dk_42 (dk_at dksL_law_37 12 rfl rfl)
theorem dL_law_993 : decode cL_law 993 = .ok (.iload 4, 2) := dk_21 4 (dk_at dksL_law_37 13 rfl rfl)
theorem dL_law_995 : decode cL_law 995 = .ok (.iconst 2, 1) := dk_5 (dk_at dksL_law_37 15 rfl rfl)
theorem dL_law_996 : decode cL_law 996 = .ok (.iadd, 1) := dk_96 (dk_at dksL_law_37 16 rfl rfl)
theorem dL_law_997 : decode cL_law 997 = .ok (.iaload, 1) := dk_46 (dk_at dksL_law_37 17 rfl rfl)
theorem dL_law_998 : decode cL_law 998 = .ok (.invokevirtual 153, 3) := dk_182 0 153 (dk_at dksL_law_37 18 rfl rfl)
theorem dL_law_1001 : decode cL_law 1001 = .ok (.istore 6, 2) := dk_54 6 (dk_at dksL_law_37 21 rfl rfl)
theorem dL_law_1003 : decode cL_law 1003 = .ok (.aload_n 2, 1) := dk_44 (dk_at dksL_law_37 23 rfl rfl)
theorem dL_law_1004 : decode cL_law 1004 = .ok (.invokevirtual 114, 3) := dk_182 0 114 (dk_at dksL_law_38 0 rfl rfl)
theorem dL_law_1007 : decode cL_law 1007 = .ok (.iload 5, 2) := dk_21 5 (dk_at dksL_law_38 3 rfl rfl)
theorem dL_law_1009 : decode cL_law 1009 = .ok (.if_icmp .eq 5, 3) := dk_159 0 5 (dk_at dksL_law_38 5 rfl rfl)
theorem dL_law_1012 : decode cL_law 1012 = .ok (.iconst 0, 1) := dk_3 (dk_at dksL_law_38 8 rfl rfl)
theorem dL_law_1013 : decode cL_law 1013 = .ok (.ireturn, 1) := dk_172 (dk_at dksL_law_38 9 rfl rfl)
theorem dL_law_1014 : decode cL_law 1014 = .ok (.iload 5, 2) := dk_21 5 (dk_at dksL_law_38 10 rfl rfl)
theorem dL_law_1016 : decode cL_law 1016 = .ok (.ifCond .ne 15, 3) := dk_154 0 15 (dk_at dksL_law_38 12 rfl rfl)
theorem dL_law_1019 : decode cL_law 1019 = .ok (.aload_n 3, 1) := dk_45 (dk_at dksL_law_38 15 rfl rfl)
theorem dL_law_1020 : decode cL_law 1020 = .ok (.iconst 0, 1) := dk_3 (dk_at dksL_law_38 16 rfl rfl)
theorem dL_law_1021 : decode cL_law 1021 = .ok (.laload, 1) := dk_47 (dk_at dksL_law_38 17 rfl rfl)
theorem dL_law_1022 : decode cL_law 1022 = .ok (.iload 6, 2) := dk_21 6 (dk_at dksL_law_38 18 rfl rfl)
theorem dL_law_1024 : decode cL_law 1024 = .ok (.i2l, 1) := dk_133 (dk_at dksL_law_38 20 rfl rfl)
theorem dL_law_1025 : decode cL_law 1025 = .ok (.lcmp, 1) := dk_148 (dk_at dksL_law_38 21 rfl rfl)
theorem dL_law_1026 : decode cL_law 1026 = .ok (.ifCond .eq 5, 3) := dk_153 0 5 (dk_at dksL_law_39 0 rfl rfl)
theorem dL_law_1029 : decode cL_law 1029 = .ok (.iconst 0, 1) := dk_3 (dk_at dksL_law_39 3 rfl rfl)
theorem dL_law_1030 : decode cL_law 1030 = .ok (.ireturn, 1) := dk_172 (dk_at dksL_law_39 4 rfl rfl)
theorem dL_law_1031 : decode cL_law 1031 = .ok (.goto 1180, 3) := dk_167 4 156 (dk_at dksL_law_39 5 rfl rfl)
theorem dL_law_1034 : decode cL_law 1034 = .ok (.aload_n 1, 1) := dk_43 (dk_at dksL_law_39 8 rfl rfl)
theorem dL_law_1035 : decode cL_law 1035 = .ok (.aload_n 0, 1) := dk_42 (dk_at dksL_law_39 9 rfl rfl)
theorem dL_law_1036 : decode cL_law 1036 = .ok (.iload 4, 2) := dk_21 4 (dk_at dksL_law_39 10 rfl rfl)
theorem dL_law_1038 : decode cL_law 1038 = .ok (.iconst 1, 1) := dk_4 (dk_at dksL_law_39 12 rfl rfl)
theorem dL_law_1039 : decode cL_law 1039 = .ok (.iadd, 1) := dk_96 (dk_at dksL_law_39 13 rfl rfl)
theorem dL_law_1040 : decode cL_law 1040 = .ok (.iaload, 1) := dk_46 (dk_at dksL_law_39 14 rfl rfl)
theorem dL_law_1041 : decode cL_law 1041 = .ok (.aload_n 0, 1) := dk_42 (dk_at dksL_law_39 15 rfl rfl)
theorem dL_law_1042 : decode cL_law 1042 = .ok (.iload 4, 2) := dk_21 4 (dk_at dksL_law_39 16 rfl rfl)
theorem dL_law_1044 : decode cL_law 1044 = .ok (.iconst 2, 1) := dk_5 (dk_at dksL_law_39 18 rfl rfl)
theorem dL_law_1045 : decode cL_law 1045 = .ok (.iadd, 1) := dk_96 (dk_at dksL_law_39 19 rfl rfl)
theorem dL_law_1046 : decode cL_law 1046 = .ok (.iaload, 1) := dk_46 (dk_at dksL_law_39 20 rfl rfl)
theorem dL_law_1047 : decode cL_law 1047 = .ok (.aload_n 3, 1) := dk_45 (dk_at dksL_law_39 21 rfl rfl)
theorem dL_law_1048 : decode cL_law 1048 = .ok (.invokestatic 154, 3) := dk_184 0 154 (dk_at dksL_law_40 0 rfl rfl)
theorem dL_law_1051 : decode cL_law 1051 = .ok (.istore 5, 2) := dk_54 5 (dk_at dksL_law_40 3 rfl rfl)
theorem dL_law_1053 : decode cL_law 1053 = .ok (.aload_n 2, 1) := dk_44 (dk_at dksL_law_40 5 rfl rfl)
theorem dL_law_1054 : decode cL_law 1054 = .ok (.aload_n 0, 1) := dk_42 (dk_at dksL_law_40 6 rfl rfl)
theorem dL_law_1055 : decode cL_law 1055 = .ok (.iload 4, 2) := dk_21 4 (dk_at dksL_law_40 7 rfl rfl)
theorem dL_law_1057 : decode cL_law 1057 = .ok (.iconst 1, 1) := dk_4 (dk_at dksL_law_40 9 rfl rfl)
theorem dL_law_1058 : decode cL_law 1058 = .ok (.iadd, 1) := dk_96 (dk_at dksL_law_40 10 rfl rfl)
theorem dL_law_1059 : decode cL_law 1059 = .ok (.iaload, 1) := dk_46 (dk_at dksL_law_40 11 rfl rfl)
theorem dL_law_1060 : decode cL_law 1060 = .ok (.aload_n 0, 1) := dk_42 (dk_at dksL_law_40 12 rfl rfl)
theorem dL_law_1061 : decode cL_law 1061 = .ok (.iload 4, 2) := dk_21 4 (dk_at dksL_law_40 13 rfl rfl)
theorem dL_law_1063 : decode cL_law 1063 = .ok (.iconst 2, 1) := dk_5 (dk_at dksL_law_40 15 rfl rfl)
theorem dL_law_1064 : decode cL_law 1064 = .ok (.iadd, 1) := dk_96 (dk_at dksL_law_40 16 rfl rfl)
theorem dL_law_1065 : decode cL_law 1065 = .ok (.iaload, 1) := dk_46 (dk_at dksL_law_40 17 rfl rfl)
theorem dL_law_1066 : decode cL_law 1066 = .ok (.invokevirtual 156, 3) := dk_182 0 156 (dk_at dksL_law_40 18 rfl rfl)
theorem dL_law_1069 : decode cL_law 1069 = .ok (.istore 6, 2) := dk_54 6 (dk_at dksL_law_40 21 rfl rfl)
theorem dL_law_1071 : decode cL_law 1071 = .ok (.aload_n 2, 1) := dk_44 (dk_at dksL_law_40 23 rfl rfl)
theorem dL_law_1072 : decode cL_law 1072 = .ok (.invokevirtual 114, 3) := dk_182 0 114 (dk_at dksL_law_41 0 rfl rfl)
theorem dL_law_1075 : decode cL_law 1075 = .ok (.iload 5, 2) := dk_21 5 (dk_at dksL_law_41 3 rfl rfl)
theorem dL_law_1077 : decode cL_law 1077 = .ok (.if_icmp .eq 5, 3) := dk_159 0 5 (dk_at dksL_law_41 5 rfl rfl)
theorem dL_law_1080 : decode cL_law 1080 = .ok (.iconst 0, 1) := dk_3 (dk_at dksL_law_41 8 rfl rfl)
theorem dL_law_1081 : decode cL_law 1081 = .ok (.ireturn, 1) := dk_172 (dk_at dksL_law_41 9 rfl rfl)
theorem dL_law_1082 : decode cL_law 1082 = .ok (.iload 5, 2) := dk_21 5 (dk_at dksL_law_41 10 rfl rfl)
theorem dL_law_1084 : decode cL_law 1084 = .ok (.ifCond .ne 15, 3) := dk_154 0 15 (dk_at dksL_law_41 12 rfl rfl)
theorem dL_law_1087 : decode cL_law 1087 = .ok (.aload_n 3, 1) := dk_45 (dk_at dksL_law_41 15 rfl rfl)
theorem dL_law_1088 : decode cL_law 1088 = .ok (.iconst 0, 1) := dk_3 (dk_at dksL_law_41 16 rfl rfl)
theorem dL_law_1089 : decode cL_law 1089 = .ok (.laload, 1) := dk_47 (dk_at dksL_law_41 17 rfl rfl)
theorem dL_law_1090 : decode cL_law 1090 = .ok (.iload 6, 2) := dk_21 6 (dk_at dksL_law_41 18 rfl rfl)
theorem dL_law_1092 : decode cL_law 1092 = .ok (.i2l, 1) := dk_133 (dk_at dksL_law_41 20 rfl rfl)
theorem dL_law_1093 : decode cL_law 1093 = .ok (.lcmp, 1) := dk_148 (dk_at dksL_law_41 21 rfl rfl)
theorem dL_law_1094 : decode cL_law 1094 = .ok (.ifCond .eq 5, 3) := dk_153 0 5 (dk_at dksL_law_42 0 rfl rfl)
theorem dL_law_1097 : decode cL_law 1097 = .ok (.iconst 0, 1) := dk_3 (dk_at dksL_law_42 3 rfl rfl)
theorem dL_law_1098 : decode cL_law 1098 = .ok (.ireturn, 1) := dk_172 (dk_at dksL_law_42 4 rfl rfl)
theorem dL_law_1099 : decode cL_law 1099 = .ok (.goto 1112, 3) := dk_167 4 88 (dk_at dksL_law_42 5 rfl rfl)
theorem dL_law_1102 : decode cL_law 1102 = .ok (.aload_n 1, 1) := dk_43 (dk_at dksL_law_42 8 rfl rfl)
theorem dL_law_1103 : decode cL_law 1103 = .ok (.aload_n 0, 1) := dk_42 (dk_at dksL_law_42 9 rfl rfl)
theorem dL_law_1104 : decode cL_law 1104 = .ok (.iload 4, 2) := dk_21 4 (dk_at dksL_law_42 10 rfl rfl)
theorem dL_law_1106 : decode cL_law 1106 = .ok (.iconst 1, 1) := dk_4 (dk_at dksL_law_42 12 rfl rfl)
theorem dL_law_1107 : decode cL_law 1107 = .ok (.iadd, 1) := dk_96 (dk_at dksL_law_42 13 rfl rfl)
theorem dL_law_1108 : decode cL_law 1108 = .ok (.iaload, 1) := dk_46 (dk_at dksL_law_42 14 rfl rfl)
theorem dL_law_1109 : decode cL_law 1109 = .ok (.aload_n 0, 1) := dk_42 (dk_at dksL_law_42 15 rfl rfl)
theorem dL_law_1110 : decode cL_law 1110 = .ok (.iload 4, 2) := dk_21 4 (dk_at dksL_law_42 16 rfl rfl)
theorem dL_law_1112 : decode cL_law 1112 = .ok (.iconst 2, 1) := dk_5 (dk_at dksL_law_42 18 rfl rfl)
theorem dL_law_1113 : decode cL_law 1113 = .ok (.iadd, 1) := dk_96 (dk_at dksL_law_42 19 rfl rfl)
theorem dL_law_1114 : decode cL_law 1114 = .ok (.iaload, 1) := dk_46 (dk_at dksL_law_42 20 rfl rfl)
theorem dL_law_1115 : decode cL_law 1115 = .ok (.ifCond .eq 7, 3) := dk_153 0 7 (dk_at dksL_law_42 21 rfl rfl)
theorem dL_law_1118 : decode cL_law 1118 = .ok (.iconst 1, 1) := dk_4 (dk_at dksL_law_43 0 rfl rfl)
theorem dL_law_1119 : decode cL_law 1119 = .ok (.goto 4, 3) := dk_167 0 4 (dk_at dksL_law_43 1 rfl rfl)
theorem dL_law_1122 : decode cL_law 1122 = .ok (.iconst 0, 1) := dk_3 (dk_at dksL_law_43 4 rfl rfl)
theorem dL_law_1123 : decode cL_law 1123 = .ok (.aload_n 3, 1) := dk_45 (dk_at dksL_law_43 5 rfl rfl)
theorem dL_law_1124 : decode cL_law 1124 = .ok (.invokestatic 157, 3) := dk_184 0 157 (dk_at dksL_law_43 6 rfl rfl)
theorem dL_law_1127 : decode cL_law 1127 = .ok (.istore 5, 2) := dk_54 5 (dk_at dksL_law_43 9 rfl rfl)
theorem dL_law_1129 : decode cL_law 1129 = .ok (.aload_n 2, 1) := dk_44 (dk_at dksL_law_43 11 rfl rfl)
theorem dL_law_1130 : decode cL_law 1130 = .ok (.aload_n 0, 1) := dk_42 (dk_at dksL_law_43 12 rfl rfl)
theorem dL_law_1131 : decode cL_law 1131 = .ok (.iload 4, 2) := dk_21 4 (dk_at dksL_law_43 13 rfl rfl)
theorem dL_law_1133 : decode cL_law 1133 = .ok (.iconst 1, 1) := dk_4 (dk_at dksL_law_43 15 rfl rfl)
theorem dL_law_1134 : decode cL_law 1134 = .ok (.iadd, 1) := dk_96 (dk_at dksL_law_43 16 rfl rfl)
theorem dL_law_1135 : decode cL_law 1135 = .ok (.iaload, 1) := dk_46 (dk_at dksL_law_43 17 rfl rfl)
theorem dL_law_1136 : decode cL_law 1136 = .ok (.aload_n 0, 1) := dk_42 (dk_at dksL_law_43 18 rfl rfl)
theorem dL_law_1137 : decode cL_law 1137 = .ok (.iload 4, 2) := dk_21 4 (dk_at dksL_law_43 19 rfl rfl)
theorem dL_law_1139 : decode cL_law 1139 = .ok (.iconst 2, 1) := dk_5 (dk_at dksL_law_43 21 rfl rfl)
theorem dL_law_1140 : decode cL_law 1140 = .ok (.iadd, 1) := dk_96 (dk_at dksL_law_43 22 rfl rfl)
theorem dL_law_1141 : decode cL_law 1141 = .ok (.iaload, 1) := dk_46 (dk_at dksL_law_43 23 rfl rfl)
theorem dL_law_1142 : decode cL_law 1142 = .ok (.ifCond .eq 7, 3) := dk_153 0 7 (dk_at dksL_law_44 0 rfl rfl)
theorem dL_law_1145 : decode cL_law 1145 = .ok (.iconst 1, 1) := dk_4 (dk_at dksL_law_44 3 rfl rfl)
theorem dL_law_1146 : decode cL_law 1146 = .ok (.goto 4, 3) := dk_167 0 4 (dk_at dksL_law_44 4 rfl rfl)
theorem dL_law_1149 : decode cL_law 1149 = .ok (.iconst 0, 1) := dk_3 (dk_at dksL_law_44 7 rfl rfl)
theorem dL_law_1150 : decode cL_law 1150 = .ok (.invokevirtual 160, 3) := dk_182 0 160 (dk_at dksL_law_44 8 rfl rfl)
theorem dL_law_1153 : decode cL_law 1153 = .ok (.istore 6, 2) := dk_54 6 (dk_at dksL_law_44 11 rfl rfl)
theorem dL_law_1155 : decode cL_law 1155 = .ok (.aload_n 2, 1) := dk_44 (dk_at dksL_law_44 13 rfl rfl)
theorem dL_law_1156 : decode cL_law 1156 = .ok (.invokevirtual 114, 3) := dk_182 0 114 (dk_at dksL_law_44 14 rfl rfl)
theorem dL_law_1159 : decode cL_law 1159 = .ok (.iload 5, 2) := dk_21 5 (dk_at dksL_law_44 17 rfl rfl)
theorem dL_law_1161 : decode cL_law 1161 = .ok (.if_icmp .eq 5, 3) := dk_159 0 5 (dk_at dksL_law_44 19 rfl rfl)
theorem dL_law_1164 : decode cL_law 1164 = .ok (.iconst 0, 1) := dk_3 (dk_at dksL_law_44 22 rfl rfl)
theorem dL_law_1165 : decode cL_law 1165 = .ok (.ireturn, 1) := dk_172 (dk_at dksL_law_44 23 rfl rfl)
theorem dL_law_1166 : decode cL_law 1166 = .ok (.iload 5, 2) := dk_21 5 (dk_at dksL_law_45 0 rfl rfl)
theorem dL_law_1168 : decode cL_law 1168 = .ok (.ifCond .ne 22, 3) := dk_154 0 22 (dk_at dksL_law_45 2 rfl rfl)
theorem dL_law_1171 : decode cL_law 1171 = .ok (.aload_n 3, 1) := dk_45 (dk_at dksL_law_45 5 rfl rfl)
theorem dL_law_1172 : decode cL_law 1172 = .ok (.iconst 0, 1) := dk_3 (dk_at dksL_law_45 6 rfl rfl)
theorem dL_law_1173 : decode cL_law 1173 = .ok (.laload, 1) := dk_47 (dk_at dksL_law_45 7 rfl rfl)
theorem dL_law_1174 : decode cL_law 1174 = .ok (.iload 6, 2) := dk_21 6 (dk_at dksL_law_45 8 rfl rfl)
theorem dL_law_1176 : decode cL_law 1176 = .ok (.ifCond .eq 7, 3) := dk_153 0 7 (dk_at dksL_law_45 10 rfl rfl)
theorem dL_law_1179 : decode cL_law 1179 = .ok (.lconst 1, 1) := dk_10 (dk_at dksL_law_45 13 rfl rfl)
theorem dL_law_1180 : decode cL_law 1180 = .ok (.goto 4, 3) := dk_167 0 4 (dk_at dksL_law_45 14 rfl rfl)
theorem dL_law_1183 : decode cL_law 1183 = .ok (.lconst 0, 1) := dk_9 (dk_at dksL_law_45 17 rfl rfl)
theorem dL_law_1184 : decode cL_law 1184 = .ok (.lcmp, 1) := dk_148 (dk_at dksL_law_45 18 rfl rfl)
theorem dL_law_1185 : decode cL_law 1185 = .ok (.ifCond .eq 5, 3) := dk_153 0 5 (dk_at dksL_law_45 19 rfl rfl)
theorem dL_law_1188 : decode cL_law 1188 = .ok (.iconst 0, 1) := dk_3 (dk_at dksL_law_45 22 rfl rfl)
theorem dL_law_1189 : decode cL_law 1189 = .ok (.ireturn, 1) := dk_172 (dk_at dksL_law_45 23 rfl rfl)
theorem dL_law_1190 : decode cL_law 1190 = .ok (.goto 1021, 3) := dk_167 3 253 (dk_at dksL_law_46 0 rfl rfl)
theorem dL_law_1193 : decode cL_law 1193 = .ok (.aload_n 1, 1) := dk_43 (dk_at dksL_law_46 3 rfl rfl)
theorem dL_law_1194 : decode cL_law 1194 = .ok (.aload_n 0, 1) := dk_42 (dk_at dksL_law_46 4 rfl rfl)
theorem dL_law_1195 : decode cL_law 1195 = .ok (.iload 4, 2) := dk_21 4 (dk_at dksL_law_46 5 rfl rfl)
theorem dL_law_1197 : decode cL_law 1197 = .ok (.iconst 1, 1) := dk_4 (dk_at dksL_law_46 7 rfl rfl)
theorem dL_law_1198 : decode cL_law 1198 = .ok (.iadd, 1) := dk_96 (dk_at dksL_law_46 8 rfl rfl)
theorem dL_law_1199 : decode cL_law 1199 = .ok (.iaload, 1) := dk_46 (dk_at dksL_law_46 9 rfl rfl)
theorem dL_law_1200 : decode cL_law 1200 = .ok (.aload_n 0, 1) := dk_42 (dk_at dksL_law_46 10 rfl rfl)
theorem dL_law_1201 : decode cL_law 1201 = .ok (.iload 4, 2) := dk_21 4 (dk_at dksL_law_46 11 rfl rfl)
theorem dL_law_1203 : decode cL_law 1203 = .ok (.iconst 2, 1) := dk_5 (dk_at dksL_law_46 13 rfl rfl)
theorem dL_law_1204 : decode cL_law 1204 = .ok (.iadd, 1) := dk_96 (dk_at dksL_law_46 14 rfl rfl)
theorem dL_law_1205 : decode cL_law 1205 = .ok (.iaload, 1) := dk_46 (dk_at dksL_law_46 15 rfl rfl)
theorem dL_law_1206 : decode cL_law 1206 = .ok (.aload_n 0, 1) := dk_42 (dk_at dksL_law_46 16 rfl rfl)
theorem dL_law_1207 : decode cL_law 1207 = .ok (.iload 4, 2) := dk_21 4 (dk_at dksL_law_46 17 rfl rfl)
theorem dL_law_1209 : decode cL_law 1209 = .ok (.iconst 3, 1) := dk_6 (dk_at dksL_law_46 19 rfl rfl)
theorem dL_law_1210 : decode cL_law 1210 = .ok (.iadd, 1) := dk_96 (dk_at dksL_law_46 20 rfl rfl)
theorem dL_law_1211 : decode cL_law 1211 = .ok (.iaload, 1) := dk_46 (dk_at dksL_law_46 21 rfl rfl)
theorem dL_law_1212 : decode cL_law 1212 = .ok (.aload_n 3, 1) := dk_45 (dk_at dksL_law_46 22 rfl rfl)
theorem dL_law_1213 : decode cL_law 1213 = .ok (.invokestatic 161, 3) := dk_184 0 161 (dk_at dksL_law_47 0 rfl rfl)
theorem dL_law_1216 : decode cL_law 1216 = .ok (.istore 5, 2) := dk_54 5 (dk_at dksL_law_47 3 rfl rfl)
theorem dL_law_1218 : decode cL_law 1218 = .ok (.aload_n 2, 1) := dk_44 (dk_at dksL_law_47 5 rfl rfl)
theorem dL_law_1219 : decode cL_law 1219 = .ok (.aload_n 0, 1) := dk_42 (dk_at dksL_law_47 6 rfl rfl)
theorem dL_law_1220 : decode cL_law 1220 = .ok (.iload 4, 2) := dk_21 4 (dk_at dksL_law_47 7 rfl rfl)
theorem dL_law_1222 : decode cL_law 1222 = .ok (.iconst 1, 1) := dk_4 (dk_at dksL_law_47 9 rfl rfl)
theorem dL_law_1223 : decode cL_law 1223 = .ok (.iadd, 1) := dk_96 (dk_at dksL_law_47 10 rfl rfl)
theorem dL_law_1224 : decode cL_law 1224 = .ok (.iaload, 1) := dk_46 (dk_at dksL_law_47 11 rfl rfl)
theorem dL_law_1225 : decode cL_law 1225 = .ok (.aload_n 0, 1) := dk_42 (dk_at dksL_law_47 12 rfl rfl)
theorem dL_law_1226 : decode cL_law 1226 = .ok (.iload 4, 2) := dk_21 4 (dk_at dksL_law_47 13 rfl rfl)
theorem dL_law_1228 : decode cL_law 1228 = .ok (.iconst 2, 1) := dk_5 (dk_at dksL_law_47 15 rfl rfl)
theorem dL_law_1229 : decode cL_law 1229 = .ok (.iadd, 1) := dk_96 (dk_at dksL_law_47 16 rfl rfl)
theorem dL_law_1230 : decode cL_law 1230 = .ok (.iaload, 1) := dk_46 (dk_at dksL_law_47 17 rfl rfl)
theorem dL_law_1231 : decode cL_law 1231 = .ok (.aload_n 0, 1) := dk_42 (dk_at dksL_law_47 18 rfl rfl)
theorem dL_law_1232 : decode cL_law 1232 = .ok (.iload 4, 2) := dk_21 4 (dk_at dksL_law_47 19 rfl rfl)
theorem dL_law_1234 : decode cL_law 1234 = .ok (.iconst 3, 1) := dk_6 (dk_at dksL_law_47 21 rfl rfl)
theorem dL_law_1235 : decode cL_law 1235 = .ok (.iadd, 1) := dk_96 (dk_at dksL_law_47 22 rfl rfl)
theorem dL_law_1236 : decode cL_law 1236 = .ok (.iaload, 1) := dk_46 (dk_at dksL_law_47 23 rfl rfl)
theorem dL_law_1237 : decode cL_law 1237 = .ok (.invokevirtual 163, 3) := dk_182 0 163 (dk_at dksL_law_48 0 rfl rfl)
theorem dL_law_1240 : decode cL_law 1240 = .ok (.istore 6, 2) := dk_54 6 (dk_at dksL_law_48 3 rfl rfl)
theorem dL_law_1242 : decode cL_law 1242 = .ok (.aload_n 2, 1) := dk_44 (dk_at dksL_law_48 5 rfl rfl)
theorem dL_law_1243 : decode cL_law 1243 = .ok (.invokevirtual 114, 3) := dk_182 0 114 (dk_at dksL_law_48 6 rfl rfl)
theorem dL_law_1246 : decode cL_law 1246 = .ok (.iload 5, 2) := dk_21 5 (dk_at dksL_law_48 9 rfl rfl)
theorem dL_law_1248 : decode cL_law 1248 = .ok (.if_icmp .eq 5, 3) := dk_159 0 5 (dk_at dksL_law_48 11 rfl rfl)
theorem dL_law_1251 : decode cL_law 1251 = .ok (.iconst 0, 1) := dk_3 (dk_at dksL_law_48 14 rfl rfl)
theorem dL_law_1252 : decode cL_law 1252 = .ok (.ireturn, 1) := dk_172 (dk_at dksL_law_48 15 rfl rfl)
theorem dL_law_1253 : decode cL_law 1253 = .ok (.iload 5, 2) := dk_21 5 (dk_at dksL_law_48 16 rfl rfl)
theorem dL_law_1255 : decode cL_law 1255 = .ok (.ifCond .ne 15, 3) := dk_154 0 15 (dk_at dksL_law_48 18 rfl rfl)
theorem dL_law_1258 : decode cL_law 1258 = .ok (.aload_n 3, 1) := dk_45 (dk_at dksL_law_48 21 rfl rfl)
theorem dL_law_1259 : decode cL_law 1259 = .ok (.iconst 0, 1) := dk_3 (dk_at dksL_law_48 22 rfl rfl)
theorem dL_law_1260 : decode cL_law 1260 = .ok (.laload, 1) := dk_47 (dk_at dksL_law_48 23 rfl rfl)
theorem dL_law_1261 : decode cL_law 1261 = .ok (.iload 6, 2) := dk_21 6 (dk_at dksL_law_49 0 rfl rfl)
theorem dL_law_1263 : decode cL_law 1263 = .ok (.i2l, 1) := dk_133 (dk_at dksL_law_49 2 rfl rfl)
theorem dL_law_1264 : decode cL_law 1264 = .ok (.lcmp, 1) := dk_148 (dk_at dksL_law_49 3 rfl rfl)
theorem dL_law_1265 : decode cL_law 1265 = .ok (.ifCond .eq 5, 3) := dk_153 0 5 (dk_at dksL_law_49 4 rfl rfl)
theorem dL_law_1268 : decode cL_law 1268 = .ok (.iconst 0, 1) := dk_3 (dk_at dksL_law_49 7 rfl rfl)
theorem dL_law_1269 : decode cL_law 1269 = .ok (.ireturn, 1) := dk_172 (dk_at dksL_law_49 8 rfl rfl)
theorem dL_law_1270 : decode cL_law 1270 = .ok (.goto 941, 3) := dk_167 3 173 (dk_at dksL_law_49 9 rfl rfl)
theorem dL_law_1273 : decode cL_law 1273 = .ok (.aload_n 1, 1) := dk_43 (dk_at dksL_law_49 12 rfl rfl)
theorem dL_law_1274 : decode cL_law 1274 = .ok (.aload_n 0, 1) := dk_42 (dk_at dksL_law_49 13 rfl rfl)
theorem dL_law_1275 : decode cL_law 1275 = .ok (.iload 4, 2) := dk_21 4 (dk_at dksL_law_49 14 rfl rfl)
theorem dL_law_1277 : decode cL_law 1277 = .ok (.iconst 1, 1) := dk_4 (dk_at dksL_law_49 16 rfl rfl)
theorem dL_law_1278 : decode cL_law 1278 = .ok (.iadd, 1) := dk_96 (dk_at dksL_law_49 17 rfl rfl)
theorem dL_law_1279 : decode cL_law 1279 = .ok (.iaload, 1) := dk_46 (dk_at dksL_law_49 18 rfl rfl)
theorem dL_law_1280 : decode cL_law 1280 = .ok (.aload_n 0, 1) := dk_42 (dk_at dksL_law_49 19 rfl rfl)
theorem dL_law_1281 : decode cL_law 1281 = .ok (.iload 4, 2) := dk_21 4 (dk_at dksL_law_49 20 rfl rfl)
theorem dL_law_1283 : decode cL_law 1283 = .ok (.iconst 2, 1) := dk_5 (dk_at dksL_law_49 22 rfl rfl)
theorem dL_law_1284 : decode cL_law 1284 = .ok (.iadd, 1) := dk_96 (dk_at dksL_law_49 23 rfl rfl)
theorem dL_law_1285 : decode cL_law 1285 = .ok (.iaload, 1) := dk_46 (dk_at dksL_law_50 0 rfl rfl)
theorem dL_law_1286 : decode cL_law 1286 = .ok (.aload_n 0, 1) := dk_42 (dk_at dksL_law_50 1 rfl rfl)
theorem dL_law_1287 : decode cL_law 1287 = .ok (.iload 4, 2) := dk_21 4 (dk_at dksL_law_50 2 rfl rfl)
theorem dL_law_1289 : decode cL_law 1289 = .ok (.iconst 3, 1) := dk_6 (dk_at dksL_law_50 4 rfl rfl)
theorem dL_law_1290 : decode cL_law 1290 = .ok (.iadd, 1) := dk_96 (dk_at dksL_law_50 5 rfl rfl)
theorem dL_law_1291 : decode cL_law 1291 = .ok (.iaload, 1) := dk_46 (dk_at dksL_law_50 6 rfl rfl)
theorem dL_law_1292 : decode cL_law 1292 = .ok (.aload_n 3, 1) := dk_45 (dk_at dksL_law_50 7 rfl rfl)
theorem dL_law_1293 : decode cL_law 1293 = .ok (.invokestatic 164, 3) := dk_184 0 164 (dk_at dksL_law_50 8 rfl rfl)
theorem dL_law_1296 : decode cL_law 1296 = .ok (.istore 5, 2) := dk_54 5 (dk_at dksL_law_50 11 rfl rfl)
theorem dL_law_1298 : decode cL_law 1298 = .ok (.aload_n 2, 1) := dk_44 (dk_at dksL_law_50 13 rfl rfl)
theorem dL_law_1299 : decode cL_law 1299 = .ok (.aload_n 0, 1) := dk_42 (dk_at dksL_law_50 14 rfl rfl)
theorem dL_law_1300 : decode cL_law 1300 = .ok (.iload 4, 2) := dk_21 4 (dk_at dksL_law_50 15 rfl rfl)
theorem dL_law_1302 : decode cL_law 1302 = .ok (.iconst 1, 1) := dk_4 (dk_at dksL_law_50 17 rfl rfl)
theorem dL_law_1303 : decode cL_law 1303 = .ok (.iadd, 1) := dk_96 (dk_at dksL_law_50 18 rfl rfl)
theorem dL_law_1304 : decode cL_law 1304 = .ok (.iaload, 1) := dk_46 (dk_at dksL_law_50 19 rfl rfl)
theorem dL_law_1305 : decode cL_law 1305 = .ok (.aload_n 0, 1) := dk_42 (dk_at dksL_law_50 20 rfl rfl)
theorem dL_law_1306 : decode cL_law 1306 = .ok (.iload 4, 2) := dk_21 4 (dk_at dksL_law_50 21 rfl rfl)
theorem dL_law_1308 : decode cL_law 1308 = .ok (.iconst 2, 1) := dk_5 (dk_at dksL_law_50 23 rfl rfl)
theorem dL_law_1309 : decode cL_law 1309 = .ok (.iadd, 1) := dk_96 (dk_at dksL_law_51 0 rfl rfl)
theorem dL_law_1310 : decode cL_law 1310 = .ok (.iaload, 1) := dk_46 (dk_at dksL_law_51 1 rfl rfl)
theorem dL_law_1311 : decode cL_law 1311 = .ok (.aload_n 0, 1) := dk_42 (dk_at dksL_law_51 2 rfl rfl)
theorem dL_law_1312 : decode cL_law 1312 = .ok (.iload 4, 2) := dk_21 4 (dk_at dksL_law_51 3 rfl rfl)
theorem dL_law_1314 : decode cL_law 1314 = .ok (.iconst 3, 1) := dk_6 (dk_at dksL_law_51 5 rfl rfl)
theorem dL_law_1315 : decode cL_law 1315 = .ok (.iadd, 1) := dk_96 (dk_at dksL_law_51 6 rfl rfl)
theorem dL_law_1316 : decode cL_law 1316 = .ok (.iaload, 1) := dk_46 (dk_at dksL_law_51 7 rfl rfl)
theorem dL_law_1317 : decode cL_law 1317 = .ok (.invokevirtual 166, 3) := dk_182 0 166 (dk_at dksL_law_51 8 rfl rfl)
theorem dL_law_1320 : decode cL_law 1320 = .ok (.istore 6, 2) := dk_54 6 (dk_at dksL_law_51 11 rfl rfl)
theorem dL_law_1322 : decode cL_law 1322 = .ok (.aload_n 2, 1) := dk_44 (dk_at dksL_law_51 13 rfl rfl)
theorem dL_law_1323 : decode cL_law 1323 = .ok (.invokevirtual 114, 3) := dk_182 0 114 (dk_at dksL_law_51 14 rfl rfl)
theorem dL_law_1326 : decode cL_law 1326 = .ok (.iload 5, 2) := dk_21 5 (dk_at dksL_law_51 17 rfl rfl)
theorem dL_law_1328 : decode cL_law 1328 = .ok (.if_icmp .eq 5, 3) := dk_159 0 5 (dk_at dksL_law_51 19 rfl rfl)
theorem dL_law_1331 : decode cL_law 1331 = .ok (.iconst 0, 1) := dk_3 (dk_at dksL_law_51 22 rfl rfl)
theorem dL_law_1332 : decode cL_law 1332 = .ok (.ireturn, 1) := dk_172 (dk_at dksL_law_51 23 rfl rfl)
theorem dL_law_1333 : decode cL_law 1333 = .ok (.iload 5, 2) := dk_21 5 (dk_at dksL_law_52 0 rfl rfl)
theorem dL_law_1335 : decode cL_law 1335 = .ok (.ifCond .ne 15, 3) := dk_154 0 15 (dk_at dksL_law_52 2 rfl rfl)
theorem dL_law_1338 : decode cL_law 1338 = .ok (.aload_n 3, 1) := dk_45 (dk_at dksL_law_52 5 rfl rfl)
theorem dL_law_1339 : decode cL_law 1339 = .ok (.iconst 0, 1) := dk_3 (dk_at dksL_law_52 6 rfl rfl)
theorem dL_law_1340 : decode cL_law 1340 = .ok (.laload, 1) := dk_47 (dk_at dksL_law_52 7 rfl rfl)
theorem dL_law_1341 : decode cL_law 1341 = .ok (.iload 6, 2) := dk_21 6 (dk_at dksL_law_52 8 rfl rfl)
theorem dL_law_1343 : decode cL_law 1343 = .ok (.i2l, 1) := dk_133 (dk_at dksL_law_52 10 rfl rfl)
theorem dL_law_1344 : decode cL_law 1344 = .ok (.lcmp, 1) := dk_148 (dk_at dksL_law_52 11 rfl rfl)
theorem dL_law_1345 : decode cL_law 1345 = .ok (.ifCond .eq 5, 3) := dk_153 0 5 (dk_at dksL_law_52 12 rfl rfl)
theorem dL_law_1348 : decode cL_law 1348 = .ok (.iconst 0, 1) := dk_3 (dk_at dksL_law_52 15 rfl rfl)
theorem dL_law_1349 : decode cL_law 1349 = .ok (.ireturn, 1) := dk_172 (dk_at dksL_law_52 16 rfl rfl)
theorem dL_law_1350 : decode cL_law 1350 = .ok (.goto 861, 3) := dk_167 3 93 (dk_at dksL_law_52 17 rfl rfl)
theorem dL_law_1353 : decode cL_law 1353 = .ok (.aload_n 1, 1) := dk_43 (dk_at dksL_law_52 20 rfl rfl)
theorem dL_law_1354 : decode cL_law 1354 = .ok (.aload_n 0, 1) := dk_42 (dk_at dksL_law_52 21 rfl rfl)
theorem dL_law_1355 : decode cL_law 1355 = .ok (.iload 4, 2) := dk_21 4 (dk_at dksL_law_52 22 rfl rfl)
theorem dL_law_1357 : decode cL_law 1357 = .ok (.iconst 1, 1) := dk_4 (dk_at dksL_law_53 0 rfl rfl)
theorem dL_law_1358 : decode cL_law 1358 = .ok (.iadd, 1) := dk_96 (dk_at dksL_law_53 1 rfl rfl)
theorem dL_law_1359 : decode cL_law 1359 = .ok (.iaload, 1) := dk_46 (dk_at dksL_law_53 2 rfl rfl)
theorem dL_law_1360 : decode cL_law 1360 = .ok (.aload_n 0, 1) := dk_42 (dk_at dksL_law_53 3 rfl rfl)
theorem dL_law_1361 : decode cL_law 1361 = .ok (.iload 4, 2) := dk_21 4 (dk_at dksL_law_53 4 rfl rfl)
theorem dL_law_1363 : decode cL_law 1363 = .ok (.iconst 2, 1) := dk_5 (dk_at dksL_law_53 6 rfl rfl)
theorem dL_law_1364 : decode cL_law 1364 = .ok (.iadd, 1) := dk_96 (dk_at dksL_law_53 7 rfl rfl)
theorem dL_law_1365 : decode cL_law 1365 = .ok (.iaload, 1) := dk_46 (dk_at dksL_law_53 8 rfl rfl)
theorem dL_law_1366 : decode cL_law 1366 = .ok (.aload_n 0, 1) := dk_42 (dk_at dksL_law_53 9 rfl rfl)
theorem dL_law_1367 : decode cL_law 1367 = .ok (.iload 4, 2) := dk_21 4 (dk_at dksL_law_53 10 rfl rfl)
theorem dL_law_1369 : decode cL_law 1369 = .ok (.iconst 3, 1) := dk_6 (dk_at dksL_law_53 12 rfl rfl)
theorem dL_law_1370 : decode cL_law 1370 = .ok (.iadd, 1) := dk_96 (dk_at dksL_law_53 13 rfl rfl)
theorem dL_law_1371 : decode cL_law 1371 = .ok (.iaload, 1) := dk_46 (dk_at dksL_law_53 14 rfl rfl)
theorem dL_law_1372 : decode cL_law 1372 = .ok (.aload_n 3, 1) := dk_45 (dk_at dksL_law_53 15 rfl rfl)
theorem dL_law_1373 : decode cL_law 1373 = .ok (.invokestatic 167, 3) := dk_184 0 167 (dk_at dksL_law_53 16 rfl rfl)
theorem dL_law_1376 : decode cL_law 1376 = .ok (.istore 5, 2) := dk_54 5 (dk_at dksL_law_53 19 rfl rfl)
theorem dL_law_1378 : decode cL_law 1378 = .ok (.aload_n 2, 1) := dk_44 (dk_at dksL_law_53 21 rfl rfl)
theorem dL_law_1379 : decode cL_law 1379 = .ok (.aload_n 0, 1) := dk_42 (dk_at dksL_law_53 22 rfl rfl)
theorem dL_law_1380 : decode cL_law 1380 = .ok (.iload 4, 2) := dk_21 4 (dk_at dksL_law_54 0 rfl rfl)
theorem dL_law_1382 : decode cL_law 1382 = .ok (.iconst 1, 1) := dk_4 (dk_at dksL_law_54 2 rfl rfl)
theorem dL_law_1383 : decode cL_law 1383 = .ok (.iadd, 1) := dk_96 (dk_at dksL_law_54 3 rfl rfl)
theorem dL_law_1384 : decode cL_law 1384 = .ok (.iaload, 1) := dk_46 (dk_at dksL_law_54 4 rfl rfl)
theorem dL_law_1385 : decode cL_law 1385 = .ok (.aload_n 0, 1) := dk_42 (dk_at dksL_law_54 5 rfl rfl)
theorem dL_law_1386 : decode cL_law 1386 = .ok (.iload 4, 2) := dk_21 4 (dk_at dksL_law_54 6 rfl rfl)
theorem dL_law_1388 : decode cL_law 1388 = .ok (.iconst 2, 1) := dk_5 (dk_at dksL_law_54 8 rfl rfl)
theorem dL_law_1389 : decode cL_law 1389 = .ok (.iadd, 1) := dk_96 (dk_at dksL_law_54 9 rfl rfl)
theorem dL_law_1390 : decode cL_law 1390 = .ok (.iaload, 1) := dk_46 (dk_at dksL_law_54 10 rfl rfl)
theorem dL_law_1391 : decode cL_law 1391 = .ok (.aload_n 0, 1) := dk_42 (dk_at dksL_law_54 11 rfl rfl)
theorem dL_law_1392 : decode cL_law 1392 = .ok (.iload 4, 2) := dk_21 4 (dk_at dksL_law_54 12 rfl rfl)
theorem dL_law_1394 : decode cL_law 1394 = .ok (.iconst 3, 1) := dk_6 (dk_at dksL_law_54 14 rfl rfl)
theorem dL_law_1395 : decode cL_law 1395 = .ok (.iadd, 1) := dk_96 (dk_at dksL_law_54 15 rfl rfl)
theorem dL_law_1396 : decode cL_law 1396 = .ok (.iaload, 1) := dk_46 (dk_at dksL_law_54 16 rfl rfl)
theorem dL_law_1397 : decode cL_law 1397 = .ok (.invokevirtual 169, 3) := dk_182 0 169 (dk_at dksL_law_54 17 rfl rfl)
theorem dL_law_1400 : decode cL_law 1400 = .ok (.istore 6, 2) := dk_54 6 (dk_at dksL_law_54 20 rfl rfl)
theorem dL_law_1402 : decode cL_law 1402 = .ok (.aload_n 2, 1) := dk_44 (dk_at dksL_law_54 22 rfl rfl)
theorem dL_law_1403 : decode cL_law 1403 = .ok (.invokevirtual 114, 3) := dk_182 0 114 (dk_at dksL_law_55 0 rfl rfl)
theorem dL_law_1406 : decode cL_law 1406 = .ok (.iload 5, 2) := dk_21 5 (dk_at dksL_law_55 3 rfl rfl)
theorem dL_law_1408 : decode cL_law 1408 = .ok (.if_icmp .eq 5, 3) := dk_159 0 5 (dk_at dksL_law_55 5 rfl rfl)
theorem dL_law_1411 : decode cL_law 1411 = .ok (.iconst 0, 1) := dk_3 (dk_at dksL_law_55 8 rfl rfl)
theorem dL_law_1412 : decode cL_law 1412 = .ok (.ireturn, 1) := dk_172 (dk_at dksL_law_55 9 rfl rfl)
theorem dL_law_1413 : decode cL_law 1413 = .ok (.iload 5, 2) := dk_21 5 (dk_at dksL_law_55 10 rfl rfl)
theorem dL_law_1415 : decode cL_law 1415 = .ok (.ifCond .ne 15, 3) := dk_154 0 15 (dk_at dksL_law_55 12 rfl rfl)
theorem dL_law_1418 : decode cL_law 1418 = .ok (.aload_n 3, 1) := dk_45 (dk_at dksL_law_55 15 rfl rfl)
theorem dL_law_1419 : decode cL_law 1419 = .ok (.iconst 0, 1) := dk_3 (dk_at dksL_law_55 16 rfl rfl)
theorem dL_law_1420 : decode cL_law 1420 = .ok (.laload, 1) := dk_47 (dk_at dksL_law_55 17 rfl rfl)
theorem dL_law_1421 : decode cL_law 1421 = .ok (.iload 6, 2) := dk_21 6 (dk_at dksL_law_55 18 rfl rfl)
theorem dL_law_1423 : decode cL_law 1423 = .ok (.i2l, 1) := dk_133 (dk_at dksL_law_55 20 rfl rfl)
theorem dL_law_1424 : decode cL_law 1424 = .ok (.lcmp, 1) := dk_148 (dk_at dksL_law_55 21 rfl rfl)
theorem dL_law_1425 : decode cL_law 1425 = .ok (.ifCond .eq 5, 3) := dk_153 0 5 (dk_at dksL_law_56 0 rfl rfl)
theorem dL_law_1428 : decode cL_law 1428 = .ok (.iconst 0, 1) := dk_3 (dk_at dksL_law_56 3 rfl rfl)
theorem dL_law_1429 : decode cL_law 1429 = .ok (.ireturn, 1) := dk_172 (dk_at dksL_law_56 4 rfl rfl)
theorem dL_law_1430 : decode cL_law 1430 = .ok (.goto 781, 3) := dk_167 3 13 (dk_at dksL_law_56 5 rfl rfl)
theorem dL_law_1433 : decode cL_law 1433 = .ok (.aload_n 1, 1) := dk_43 (dk_at dksL_law_56 8 rfl rfl)
theorem dL_law_1434 : decode cL_law 1434 = .ok (.invokevirtual 170, 3) := dk_182 0 170 (dk_at dksL_law_56 9 rfl rfl)
theorem dL_law_1437 : decode cL_law 1437 = .ok (.aload_n 2, 1) := dk_44 (dk_at dksL_law_56 12 rfl rfl)
theorem dL_law_1438 : decode cL_law 1438 = .ok (.invokevirtual 173, 3) := dk_182 0 173 (dk_at dksL_law_56 13 rfl rfl)
theorem dL_law_1441 : decode cL_law 1441 = .ok (.if_icmp .eq 770, 3) := dk_159 3 2 (dk_at dksL_law_56 16 rfl rfl)
theorem dL_law_1444 : decode cL_law 1444 = .ok (.iconst 0, 1) := dk_3 (dk_at dksL_law_56 19 rfl rfl)
theorem dL_law_1445 : decode cL_law 1445 = .ok (.ireturn, 1) := dk_172 (dk_at dksL_law_56 20 rfl rfl)
theorem dL_law_1446 : decode cL_law 1446 = .ok (.aload_n 1, 1) := dk_43 (dk_at dksL_law_56 21 rfl rfl)
theorem dL_law_1447 : decode cL_law 1447 = .ok (.aload_n 0, 1) := dk_42 (dk_at dksL_law_56 22 rfl rfl)
theorem dL_law_1448 : decode cL_law 1448 = .ok (.iload 4, 2) := dk_21 4 (dk_at dksL_law_57 0 rfl rfl)
theorem dL_law_1450 : decode cL_law 1450 = .ok (.iconst 1, 1) := dk_4 (dk_at dksL_law_57 2 rfl rfl)
theorem dL_law_1451 : decode cL_law 1451 = .ok (.iadd, 1) := dk_96 (dk_at dksL_law_57 3 rfl rfl)
theorem dL_law_1452 : decode cL_law 1452 = .ok (.iaload, 1) := dk_46 (dk_at dksL_law_57 4 rfl rfl)
theorem dL_law_1453 : decode cL_law 1453 = .ok (.aload_n 3, 1) := dk_45 (dk_at dksL_law_57 5 rfl rfl)
theorem dL_law_1454 : decode cL_law 1454 = .ok (.invokestatic 174, 3) := dk_184 0 174 (dk_at dksL_law_57 6 rfl rfl)
theorem dL_law_1457 : decode cL_law 1457 = .ok (.istore 5, 2) := dk_54 5 (dk_at dksL_law_57 9 rfl rfl)
theorem dL_law_1459 : decode cL_law 1459 = .ok (.aload_n 2, 1) := dk_44 (dk_at dksL_law_57 11 rfl rfl)
theorem dL_law_1460 : decode cL_law 1460 = .ok (.aload_n 0, 1) := dk_42 (dk_at dksL_law_57 12 rfl rfl)
theorem dL_law_1461 : decode cL_law 1461 = .ok (.iload 4, 2) := dk_21 4 (dk_at dksL_law_57 13 rfl rfl)
theorem dL_law_1463 : decode cL_law 1463 = .ok (.iconst 1, 1) := dk_4 (dk_at dksL_law_57 15 rfl rfl)
theorem dL_law_1464 : decode cL_law 1464 = .ok (.iadd, 1) := dk_96 (dk_at dksL_law_57 16 rfl rfl)
theorem dL_law_1465 : decode cL_law 1465 = .ok (.iaload, 1) := dk_46 (dk_at dksL_law_57 17 rfl rfl)
theorem dL_law_1466 : decode cL_law 1466 = .ok (.invokevirtual 176, 3) := dk_182 0 176 (dk_at dksL_law_57 18 rfl rfl)
theorem dL_law_1469 : decode cL_law 1469 = .ok (.istore 6, 2) := dk_54 6 (dk_at dksL_law_57 21 rfl rfl)
theorem dL_law_1471 : decode cL_law 1471 = .ok (.aload_n 2, 1) := dk_44 (dk_at dksL_law_57 23 rfl rfl)
theorem dL_law_1472 : decode cL_law 1472 = .ok (.invokevirtual 114, 3) := dk_182 0 114 (dk_at dksL_law_58 0 rfl rfl)
theorem dL_law_1475 : decode cL_law 1475 = .ok (.iload 5, 2) := dk_21 5 (dk_at dksL_law_58 3 rfl rfl)
theorem dL_law_1477 : decode cL_law 1477 = .ok (.if_icmp .eq 5, 3) := dk_159 0 5 (dk_at dksL_law_58 5 rfl rfl)
theorem dL_law_1480 : decode cL_law 1480 = .ok (.iconst 0, 1) := dk_3 (dk_at dksL_law_58 8 rfl rfl)
theorem dL_law_1481 : decode cL_law 1481 = .ok (.ireturn, 1) := dk_172 (dk_at dksL_law_58 9 rfl rfl)
theorem dL_law_1482 : decode cL_law 1482 = .ok (.iload 5, 2) := dk_21 5 (dk_at dksL_law_58 10 rfl rfl)
theorem dL_law_1484 : decode cL_law 1484 = .ok (.ifCond .ne 15, 3) := dk_154 0 15 (dk_at dksL_law_58 12 rfl rfl)
theorem dL_law_1487 : decode cL_law 1487 = .ok (.aload_n 3, 1) := dk_45 (dk_at dksL_law_58 15 rfl rfl)
theorem dL_law_1488 : decode cL_law 1488 = .ok (.iconst 0, 1) := dk_3 (dk_at dksL_law_58 16 rfl rfl)
theorem dL_law_1489 : decode cL_law 1489 = .ok (.laload, 1) := dk_47 (dk_at dksL_law_58 17 rfl rfl)
theorem dL_law_1490 : decode cL_law 1490 = .ok (.iload 6, 2) := dk_21 6 (dk_at dksL_law_58 18 rfl rfl)
theorem dL_law_1492 : decode cL_law 1492 = .ok (.i2l, 1) := dk_133 (dk_at dksL_law_58 20 rfl rfl)
theorem dL_law_1493 : decode cL_law 1493 = .ok (.lcmp, 1) := dk_148 (dk_at dksL_law_58 21 rfl rfl)
theorem dL_law_1494 : decode cL_law 1494 = .ok (.ifCond .eq 5, 3) := dk_153 0 5 (dk_at dksL_law_59 0 rfl rfl)
theorem dL_law_1497 : decode cL_law 1497 = .ok (.iconst 0, 1) := dk_3 (dk_at dksL_law_59 3 rfl rfl)
theorem dL_law_1498 : decode cL_law 1498 = .ok (.ireturn, 1) := dk_172 (dk_at dksL_law_59 4 rfl rfl)
theorem dL_law_1499 : decode cL_law 1499 = .ok (.goto 712, 3) := dk_167 2 200 (dk_at dksL_law_59 5 rfl rfl)
theorem dL_law_1502 : decode cL_law 1502 = .ok (.aload_n 1, 1) := dk_43 (dk_at dksL_law_59 8 rfl rfl)
theorem dL_law_1503 : decode cL_law 1503 = .ok (.aload_n 0, 1) := dk_42 (dk_at dksL_law_59 9 rfl rfl)
theorem dL_law_1504 : decode cL_law 1504 = .ok (.iload 4, 2) := dk_21 4 (dk_at dksL_law_59 10 rfl rfl)
theorem dL_law_1506 : decode cL_law 1506 = .ok (.iconst 1, 1) := dk_4 (dk_at dksL_law_59 12 rfl rfl)
theorem dL_law_1507 : decode cL_law 1507 = .ok (.iadd, 1) := dk_96 (dk_at dksL_law_59 13 rfl rfl)
theorem dL_law_1508 : decode cL_law 1508 = .ok (.iaload, 1) := dk_46 (dk_at dksL_law_59 14 rfl rfl)
theorem dL_law_1509 : decode cL_law 1509 = .ok (.aload_n 0, 1) := dk_42 (dk_at dksL_law_59 15 rfl rfl)
theorem dL_law_1510 : decode cL_law 1510 = .ok (.iload 4, 2) := dk_21 4 (dk_at dksL_law_59 16 rfl rfl)
theorem dL_law_1512 : decode cL_law 1512 = .ok (.iconst 2, 1) := dk_5 (dk_at dksL_law_59 18 rfl rfl)
theorem dL_law_1513 : decode cL_law 1513 = .ok (.iadd, 1) := dk_96 (dk_at dksL_law_59 19 rfl rfl)
theorem dL_law_1514 : decode cL_law 1514 = .ok (.iaload, 1) := dk_46 (dk_at dksL_law_59 20 rfl rfl)
theorem dL_law_1515 : decode cL_law 1515 = .ok (.aload_n 3, 1) := dk_45 (dk_at dksL_law_59 21 rfl rfl)
theorem dL_law_1516 : decode cL_law 1516 = .ok (.invokestatic 177, 3) := dk_184 0 177 (dk_at dksL_law_60 0 rfl rfl)
theorem dL_law_1519 : decode cL_law 1519 = .ok (.istore 5, 2) := dk_54 5 (dk_at dksL_law_60 3 rfl rfl)
theorem dL_law_1521 : decode cL_law 1521 = .ok (.aload_n 2, 1) := dk_44 (dk_at dksL_law_60 5 rfl rfl)
theorem dL_law_1522 : decode cL_law 1522 = .ok (.aload_n 0, 1) := dk_42 (dk_at dksL_law_60 6 rfl rfl)
theorem dL_law_1523 : decode cL_law 1523 = .ok (.iload 4, 2) := dk_21 4 (dk_at dksL_law_60 7 rfl rfl)
theorem dL_law_1525 : decode cL_law 1525 = .ok (.iconst 1, 1) := dk_4 (dk_at dksL_law_60 9 rfl rfl)
theorem dL_law_1526 : decode cL_law 1526 = .ok (.iadd, 1) := dk_96 (dk_at dksL_law_60 10 rfl rfl)
theorem dL_law_1527 : decode cL_law 1527 = .ok (.iaload, 1) := dk_46 (dk_at dksL_law_60 11 rfl rfl)
theorem dL_law_1528 : decode cL_law 1528 = .ok (.aload_n 0, 1) := dk_42 (dk_at dksL_law_60 12 rfl rfl)
theorem dL_law_1529 : decode cL_law 1529 = .ok (.iload 4, 2) := dk_21 4 (dk_at dksL_law_60 13 rfl rfl)
theorem dL_law_1531 : decode cL_law 1531 = .ok (.iconst 2, 1) := dk_5 (dk_at dksL_law_60 15 rfl rfl)
theorem dL_law_1532 : decode cL_law 1532 = .ok (.iadd, 1) := dk_96 (dk_at dksL_law_60 16 rfl rfl)
theorem dL_law_1533 : decode cL_law 1533 = .ok (.iaload, 1) := dk_46 (dk_at dksL_law_60 17 rfl rfl)
theorem dL_law_1534 : decode cL_law 1534 = .ok (.invokevirtual 179, 3) := dk_182 0 179 (dk_at dksL_law_60 18 rfl rfl)
theorem dL_law_1537 : decode cL_law 1537 = .ok (.istore 6, 2) := dk_54 6 (dk_at dksL_law_60 21 rfl rfl)
theorem dL_law_1539 : decode cL_law 1539 = .ok (.aload_n 2, 1) := dk_44 (dk_at dksL_law_60 23 rfl rfl)
theorem dL_law_1540 : decode cL_law 1540 = .ok (.invokevirtual 114, 3) := dk_182 0 114 (dk_at dksL_law_61 0 rfl rfl)
theorem dL_law_1543 : decode cL_law 1543 = .ok (.iload 5, 2) := dk_21 5 (dk_at dksL_law_61 3 rfl rfl)
theorem dL_law_1545 : decode cL_law 1545 = .ok (.if_icmp .eq 5, 3) := dk_159 0 5 (dk_at dksL_law_61 5 rfl rfl)
theorem dL_law_1548 : decode cL_law 1548 = .ok (.iconst 0, 1) := dk_3 (dk_at dksL_law_61 8 rfl rfl)
theorem dL_law_1549 : decode cL_law 1549 = .ok (.ireturn, 1) := dk_172 (dk_at dksL_law_61 9 rfl rfl)
theorem dL_law_1550 : decode cL_law 1550 = .ok (.iload 5, 2) := dk_21 5 (dk_at dksL_law_61 10 rfl rfl)
theorem dL_law_1552 : decode cL_law 1552 = .ok (.ifCond .ne 15, 3) := dk_154 0 15 (dk_at dksL_law_61 12 rfl rfl)
theorem dL_law_1555 : decode cL_law 1555 = .ok (.aload_n 3, 1) := dk_45 (dk_at dksL_law_61 15 rfl rfl)
theorem dL_law_1556 : decode cL_law 1556 = .ok (.iconst 0, 1) := dk_3 (dk_at dksL_law_61 16 rfl rfl)
theorem dL_law_1557 : decode cL_law 1557 = .ok (.laload, 1) := dk_47 (dk_at dksL_law_61 17 rfl rfl)
theorem dL_law_1558 : decode cL_law 1558 = .ok (.iload 6, 2) := dk_21 6 (dk_at dksL_law_61 18 rfl rfl)
theorem dL_law_1560 : decode cL_law 1560 = .ok (.i2l, 1) := dk_133 (dk_at dksL_law_61 20 rfl rfl)
theorem dL_law_1561 : decode cL_law 1561 = .ok (.lcmp, 1) := dk_148 (dk_at dksL_law_61 21 rfl rfl)
theorem dL_law_1562 : decode cL_law 1562 = .ok (.ifCond .eq 5, 3) := dk_153 0 5 (dk_at dksL_law_62 0 rfl rfl)
theorem dL_law_1565 : decode cL_law 1565 = .ok (.iconst 0, 1) := dk_3 (dk_at dksL_law_62 3 rfl rfl)
theorem dL_law_1566 : decode cL_law 1566 = .ok (.ireturn, 1) := dk_172 (dk_at dksL_law_62 4 rfl rfl)
theorem dL_law_1567 : decode cL_law 1567 = .ok (.goto 644, 3) := dk_167 2 132 (dk_at dksL_law_62 5 rfl rfl)
theorem dL_law_1570 : decode cL_law 1570 = .ok (.aload_n 1, 1) := dk_43 (dk_at dksL_law_62 8 rfl rfl)
theorem dL_law_1571 : decode cL_law 1571 = .ok (.aload_n 0, 1) := dk_42 (dk_at dksL_law_62 9 rfl rfl)
theorem dL_law_1572 : decode cL_law 1572 = .ok (.iload 4, 2) := dk_21 4 (dk_at dksL_law_62 10 rfl rfl)
theorem dL_law_1574 : decode cL_law 1574 = .ok (.iconst 1, 1) := dk_4 (dk_at dksL_law_62 12 rfl rfl)
theorem dL_law_1575 : decode cL_law 1575 = .ok (.iadd, 1) := dk_96 (dk_at dksL_law_62 13 rfl rfl)
theorem dL_law_1576 : decode cL_law 1576 = .ok (.iaload, 1) := dk_46 (dk_at dksL_law_62 14 rfl rfl)
theorem dL_law_1577 : decode cL_law 1577 = .ok (.aload_n 3, 1) := dk_45 (dk_at dksL_law_62 15 rfl rfl)
theorem dL_law_1578 : decode cL_law 1578 = .ok (.invokestatic 180, 3) := dk_184 0 180 (dk_at dksL_law_62 16 rfl rfl)
theorem dL_law_1581 : decode cL_law 1581 = .ok (.istore 5, 2) := dk_54 5 (dk_at dksL_law_62 19 rfl rfl)
theorem dL_law_1583 : decode cL_law 1583 = .ok (.aload_n 2, 1) := dk_44 (dk_at dksL_law_62 21 rfl rfl)
theorem dL_law_1584 : decode cL_law 1584 = .ok (.aload_n 0, 1) := dk_42 (dk_at dksL_law_62 22 rfl rfl)
theorem dL_law_1585 : decode cL_law 1585 = .ok (.iload 4, 2) := dk_21 4 (dk_at dksL_law_63 0 rfl rfl)
theorem dL_law_1587 : decode cL_law 1587 = .ok (.iconst 1, 1) := dk_4 (dk_at dksL_law_63 2 rfl rfl)
theorem dL_law_1588 : decode cL_law 1588 = .ok (.iadd, 1) := dk_96 (dk_at dksL_law_63 3 rfl rfl)
theorem dL_law_1589 : decode cL_law 1589 = .ok (.iaload, 1) := dk_46 (dk_at dksL_law_63 4 rfl rfl)
theorem dL_law_1590 : decode cL_law 1590 = .ok (.invokevirtual 182, 3) := dk_182 0 182 (dk_at dksL_law_63 5 rfl rfl)
theorem dL_law_1593 : decode cL_law 1593 = .ok (.istore 6, 2) := dk_54 6 (dk_at dksL_law_63 8 rfl rfl)
theorem dL_law_1595 : decode cL_law 1595 = .ok (.aload_n 2, 1) := dk_44 (dk_at dksL_law_63 10 rfl rfl)
theorem dL_law_1596 : decode cL_law 1596 = .ok (.invokevirtual 114, 3) := dk_182 0 114 (dk_at dksL_law_63 11 rfl rfl)
theorem dL_law_1599 : decode cL_law 1599 = .ok (.iload 5, 2) := dk_21 5 (dk_at dksL_law_63 14 rfl rfl)
theorem dL_law_1601 : decode cL_law 1601 = .ok (.if_icmp .eq 5, 3) := dk_159 0 5 (dk_at dksL_law_63 16 rfl rfl)
theorem dL_law_1604 : decode cL_law 1604 = .ok (.iconst 0, 1) := dk_3 (dk_at dksL_law_63 19 rfl rfl)
theorem dL_law_1605 : decode cL_law 1605 = .ok (.ireturn, 1) := dk_172 (dk_at dksL_law_63 20 rfl rfl)
theorem dL_law_1606 : decode cL_law 1606 = .ok (.iload 5, 2) := dk_21 5 (dk_at dksL_law_63 21 rfl rfl)
theorem dL_law_1608 : decode cL_law 1608 = .ok (.ifCond .ne 15, 3) := dk_154 0 15 (dk_at dksL_law_64 0 rfl rfl)
theorem dL_law_1611 : decode cL_law 1611 = .ok (.aload_n 3, 1) := dk_45 (dk_at dksL_law_64 3 rfl rfl)
theorem dL_law_1612 : decode cL_law 1612 = .ok (.iconst 0, 1) := dk_3 (dk_at dksL_law_64 4 rfl rfl)
theorem dL_law_1613 : decode cL_law 1613 = .ok (.laload, 1) := dk_47 (dk_at dksL_law_64 5 rfl rfl)
theorem dL_law_1614 : decode cL_law 1614 = .ok (.iload 6, 2) := dk_21 6 (dk_at dksL_law_64 6 rfl rfl)
theorem dL_law_1616 : decode cL_law 1616 = .ok (.i2l, 1) := dk_133 (dk_at dksL_law_64 8 rfl rfl)
theorem dL_law_1617 : decode cL_law 1617 = .ok (.lcmp, 1) := dk_148 (dk_at dksL_law_64 9 rfl rfl)
theorem dL_law_1618 : decode cL_law 1618 = .ok (.ifCond .eq 5, 3) := dk_153 0 5 (dk_at dksL_law_64 10 rfl rfl)
theorem dL_law_1621 : decode cL_law 1621 = .ok (.iconst 0, 1) := dk_3 (dk_at dksL_law_64 13 rfl rfl)
theorem dL_law_1622 : decode cL_law 1622 = .ok (.ireturn, 1) := dk_172 (dk_at dksL_law_64 14 rfl rfl)
theorem dL_law_1623 : decode cL_law 1623 = .ok (.goto 588, 3) := dk_167 2 76 (dk_at dksL_law_64 15 rfl rfl)
theorem dL_law_1626 : decode cL_law 1626 = .ok (.aload_n 1, 1) := dk_43 (dk_at dksL_law_64 18 rfl rfl)
theorem dL_law_1627 : decode cL_law 1627 = .ok (.aload_n 0, 1) := dk_42 (dk_at dksL_law_64 19 rfl rfl)
theorem dL_law_1628 : decode cL_law 1628 = .ok (.iload 4, 2) := dk_21 4 (dk_at dksL_law_64 20 rfl rfl)
theorem dL_law_1630 : decode cL_law 1630 = .ok (.iconst 1, 1) := dk_4 (dk_at dksL_law_64 22 rfl rfl)
theorem dL_law_1631 : decode cL_law 1631 = .ok (.iadd, 1) := dk_96 (dk_at dksL_law_64 23 rfl rfl)
theorem dL_law_1632 : decode cL_law 1632 = .ok (.iaload, 1) := dk_46 (dk_at dksL_law_65 0 rfl rfl)
theorem dL_law_1633 : decode cL_law 1633 = .ok (.aload_n 0, 1) := dk_42 (dk_at dksL_law_65 1 rfl rfl)
theorem dL_law_1634 : decode cL_law 1634 = .ok (.iload 4, 2) := dk_21 4 (dk_at dksL_law_65 2 rfl rfl)
theorem dL_law_1636 : decode cL_law 1636 = .ok (.iconst 2, 1) := dk_5 (dk_at dksL_law_65 4 rfl rfl)
theorem dL_law_1637 : decode cL_law 1637 = .ok (.iadd, 1) := dk_96 (dk_at dksL_law_65 5 rfl rfl)
theorem dL_law_1638 : decode cL_law 1638 = .ok (.iaload, 1) := dk_46 (dk_at dksL_law_65 6 rfl rfl)
theorem dL_law_1639 : decode cL_law 1639 = .ok (.aload_n 3, 1) := dk_45 (dk_at dksL_law_65 7 rfl rfl)
theorem dL_law_1640 : decode cL_law 1640 = .ok (.invokestatic 183, 3) := dk_184 0 183 (dk_at dksL_law_65 8 rfl rfl)
theorem dL_law_1643 : decode cL_law 1643 = .ok (.istore 5, 2) := dk_54 5 (dk_at dksL_law_65 11 rfl rfl)
theorem dL_law_1645 : decode cL_law 1645 = .ok (.aload_n 2, 1) := dk_44 (dk_at dksL_law_65 13 rfl rfl)
theorem dL_law_1646 : decode cL_law 1646 = .ok (.aload_n 0, 1) := dk_42 (dk_at dksL_law_65 14 rfl rfl)
theorem dL_law_1647 : decode cL_law 1647 = .ok (.iload 4, 2) := dk_21 4 (dk_at dksL_law_65 15 rfl rfl)
theorem dL_law_1649 : decode cL_law 1649 = .ok (.iconst 1, 1) := dk_4 (dk_at dksL_law_65 17 rfl rfl)
theorem dL_law_1650 : decode cL_law 1650 = .ok (.iadd, 1) := dk_96 (dk_at dksL_law_65 18 rfl rfl)
theorem dL_law_1651 : decode cL_law 1651 = .ok (.iaload, 1) := dk_46 (dk_at dksL_law_65 19 rfl rfl)
theorem dL_law_1652 : decode cL_law 1652 = .ok (.aload_n 0, 1) := dk_42 (dk_at dksL_law_65 20 rfl rfl)
theorem dL_law_1653 : decode cL_law 1653 = .ok (.iload 4, 2) := dk_21 4 (dk_at dksL_law_65 21 rfl rfl)
theorem dL_law_1655 : decode cL_law 1655 = .ok (.iconst 2, 1) := dk_5 (dk_at dksL_law_65 23 rfl rfl)
theorem dL_law_1656 : decode cL_law 1656 = .ok (.iadd, 1) := dk_96 (dk_at dksL_law_66 0 rfl rfl)
theorem dL_law_1657 : decode cL_law 1657 = .ok (.iaload, 1) := dk_46 (dk_at dksL_law_66 1 rfl rfl)
theorem dL_law_1658 : decode cL_law 1658 = .ok (.invokevirtual 185, 3) := dk_182 0 185 (dk_at dksL_law_66 2 rfl rfl)
theorem dL_law_1661 : decode cL_law 1661 = .ok (.istore 6, 2) := dk_54 6 (dk_at dksL_law_66 5 rfl rfl)
theorem dL_law_1663 : decode cL_law 1663 = .ok (.aload_n 2, 1) := dk_44 (dk_at dksL_law_66 7 rfl rfl)
theorem dL_law_1664 : decode cL_law 1664 = .ok (.invokevirtual 114, 3) := dk_182 0 114 (dk_at dksL_law_66 8 rfl rfl)
theorem dL_law_1667 : decode cL_law 1667 = .ok (.iload 5, 2) := dk_21 5 (dk_at dksL_law_66 11 rfl rfl)
theorem dL_law_1669 : decode cL_law 1669 = .ok (.if_icmp .eq 5, 3) := dk_159 0 5 (dk_at dksL_law_66 13 rfl rfl)
theorem dL_law_1672 : decode cL_law 1672 = .ok (.iconst 0, 1) := dk_3 (dk_at dksL_law_66 16 rfl rfl)
theorem dL_law_1673 : decode cL_law 1673 = .ok (.ireturn, 1) := dk_172 (dk_at dksL_law_66 17 rfl rfl)
theorem dL_law_1674 : decode cL_law 1674 = .ok (.iload 5, 2) := dk_21 5 (dk_at dksL_law_66 18 rfl rfl)
theorem dL_law_1676 : decode cL_law 1676 = .ok (.ifCond .ne 15, 3) := dk_154 0 15 (dk_at dksL_law_66 20 rfl rfl)
theorem dL_law_1679 : decode cL_law 1679 = .ok (.aload_n 3, 1) := dk_45 (dk_at dksL_law_66 23 rfl rfl)
theorem dL_law_1680 : decode cL_law 1680 = .ok (.iconst 0, 1) := dk_3 (dk_at dksL_law_67 0 rfl rfl)
theorem dL_law_1681 : decode cL_law 1681 = .ok (.laload, 1) := dk_47 (dk_at dksL_law_67 1 rfl rfl)
theorem dL_law_1682 : decode cL_law 1682 = .ok (.iload 6, 2) := dk_21 6 (dk_at dksL_law_67 2 rfl rfl)
theorem dL_law_1684 : decode cL_law 1684 = .ok (.i2l, 1) := dk_133 (dk_at dksL_law_67 4 rfl rfl)
theorem dL_law_1685 : decode cL_law 1685 = .ok (.lcmp, 1) := dk_148 (dk_at dksL_law_67 5 rfl rfl)
theorem dL_law_1686 : decode cL_law 1686 = .ok (.ifCond .eq 5, 3) := dk_153 0 5 (dk_at dksL_law_67 6 rfl rfl)
theorem dL_law_1689 : decode cL_law 1689 = .ok (.iconst 0, 1) := dk_3 (dk_at dksL_law_67 9 rfl rfl)
theorem dL_law_1690 : decode cL_law 1690 = .ok (.ireturn, 1) := dk_172 (dk_at dksL_law_67 10 rfl rfl)
theorem dL_law_1691 : decode cL_law 1691 = .ok (.goto 520, 3) := dk_167 2 8 (dk_at dksL_law_67 11 rfl rfl)
theorem dL_law_1694 : decode cL_law 1694 = .ok (.aload_n 1, 1) := dk_43 (dk_at dksL_law_67 14 rfl rfl)
theorem dL_law_1695 : decode cL_law 1695 = .ok (.aload_n 0, 1) := dk_42 (dk_at dksL_law_67 15 rfl rfl)
theorem dL_law_1696 : decode cL_law 1696 = .ok (.iload 4, 2) := dk_21 4 (dk_at dksL_law_67 16 rfl rfl)
theorem dL_law_1698 : decode cL_law 1698 = .ok (.iconst 1, 1) := dk_4 (dk_at dksL_law_67 18 rfl rfl)
theorem dL_law_1699 : decode cL_law 1699 = .ok (.iadd, 1) := dk_96 (dk_at dksL_law_67 19 rfl rfl)
theorem dL_law_1700 : decode cL_law 1700 = .ok (.iaload, 1) := dk_46 (dk_at dksL_law_67 20 rfl rfl)
theorem dL_law_1701 : decode cL_law 1701 = .ok (.aload_n 3, 1) := dk_45 (dk_at dksL_law_67 21 rfl rfl)
theorem dL_law_1702 : decode cL_law 1702 = .ok (.invokestatic 186, 3) := dk_184 0 186 (dk_at dksL_law_68 0 rfl rfl)
theorem dL_law_1705 : decode cL_law 1705 = .ok (.istore 5, 2) := dk_54 5 (dk_at dksL_law_68 3 rfl rfl)
theorem dL_law_1707 : decode cL_law 1707 = .ok (.aload_n 2, 1) := dk_44 (dk_at dksL_law_68 5 rfl rfl)
theorem dL_law_1708 : decode cL_law 1708 = .ok (.aload_n 0, 1) := dk_42 (dk_at dksL_law_68 6 rfl rfl)
theorem dL_law_1709 : decode cL_law 1709 = .ok (.iload 4, 2) := dk_21 4 (dk_at dksL_law_68 7 rfl rfl)
theorem dL_law_1711 : decode cL_law 1711 = .ok (.iconst 1, 1) := dk_4 (dk_at dksL_law_68 9 rfl rfl)
theorem dL_law_1712 : decode cL_law 1712 = .ok (.iadd, 1) := dk_96 (dk_at dksL_law_68 10 rfl rfl)
theorem dL_law_1713 : decode cL_law 1713 = .ok (.iaload, 1) := dk_46 (dk_at dksL_law_68 11 rfl rfl)
theorem dL_law_1714 : decode cL_law 1714 = .ok (.invokevirtual 188, 3) := dk_182 0 188 (dk_at dksL_law_68 12 rfl rfl)
theorem dL_law_1717 : decode cL_law 1717 = .ok (.istore 6, 2) := dk_54 6 (dk_at dksL_law_68 15 rfl rfl)
theorem dL_law_1719 : decode cL_law 1719 = .ok (.aload_n 2, 1) := dk_44 (dk_at dksL_law_68 17 rfl rfl)
theorem dL_law_1720 : decode cL_law 1720 = .ok (.invokevirtual 114, 3) := dk_182 0 114 (dk_at dksL_law_68 18 rfl rfl)
theorem dL_law_1723 : decode cL_law 1723 = .ok (.iload 5, 2) := dk_21 5 (dk_at dksL_law_68 21 rfl rfl)
theorem dL_law_1725 : decode cL_law 1725 = .ok (.if_icmp .eq 5, 3) := dk_159 0 5 (dk_at dksL_law_69 0 rfl rfl)
theorem dL_law_1728 : decode cL_law 1728 = .ok (.iconst 0, 1) := dk_3 (dk_at dksL_law_69 3 rfl rfl)
theorem dL_law_1729 : decode cL_law 1729 = .ok (.ireturn, 1) := dk_172 (dk_at dksL_law_69 4 rfl rfl)
theorem dL_law_1730 : decode cL_law 1730 = .ok (.iload 5, 2) := dk_21 5 (dk_at dksL_law_69 5 rfl rfl)
theorem dL_law_1732 : decode cL_law 1732 = .ok (.ifCond .ne 15, 3) := dk_154 0 15 (dk_at dksL_law_69 7 rfl rfl)
theorem dL_law_1735 : decode cL_law 1735 = .ok (.aload_n 3, 1) := dk_45 (dk_at dksL_law_69 10 rfl rfl)
theorem dL_law_1736 : decode cL_law 1736 = .ok (.iconst 0, 1) := dk_3 (dk_at dksL_law_69 11 rfl rfl)
theorem dL_law_1737 : decode cL_law 1737 = .ok (.laload, 1) := dk_47 (dk_at dksL_law_69 12 rfl rfl)
theorem dL_law_1738 : decode cL_law 1738 = .ok (.iload 6, 2) := dk_21 6 (dk_at dksL_law_69 13 rfl rfl)
theorem dL_law_1740 : decode cL_law 1740 = .ok (.i2l, 1) := dk_133 (dk_at dksL_law_69 15 rfl rfl)
theorem dL_law_1741 : decode cL_law 1741 = .ok (.lcmp, 1) := dk_148 (dk_at dksL_law_69 16 rfl rfl)
theorem dL_law_1742 : decode cL_law 1742 = .ok (.ifCond .eq 5, 3) := dk_153 0 5 (dk_at dksL_law_69 17 rfl rfl)
theorem dL_law_1745 : decode cL_law 1745 = .ok (.iconst 0, 1) := dk_3 (dk_at dksL_law_69 20 rfl rfl)
theorem dL_law_1746 : decode cL_law 1746 = .ok (.ireturn, 1) := dk_172 (dk_at dksL_law_69 21 rfl rfl)
theorem dL_law_1747 : decode cL_law 1747 = .ok (.goto 464, 3) := dk_167 1 208 (dk_at dksL_law_70 0 rfl rfl)
theorem dL_law_1750 : decode cL_law 1750 = .ok (.aload_n 1, 1) := dk_43 (dk_at dksL_law_70 3 rfl rfl)
theorem dL_law_1751 : decode cL_law 1751 = .ok (.aload_n 0, 1) := dk_42 (dk_at dksL_law_70 4 rfl rfl)
theorem dL_law_1752 : decode cL_law 1752 = .ok (.iload 4, 2) := dk_21 4 (dk_at dksL_law_70 5 rfl rfl)
theorem dL_law_1754 : decode cL_law 1754 = .ok (.iconst 1, 1) := dk_4 (dk_at dksL_law_70 7 rfl rfl)
theorem dL_law_1755 : decode cL_law 1755 = .ok (.iadd, 1) := dk_96 (dk_at dksL_law_70 8 rfl rfl)
theorem dL_law_1756 : decode cL_law 1756 = .ok (.iaload, 1) := dk_46 (dk_at dksL_law_70 9 rfl rfl)
theorem dL_law_1757 : decode cL_law 1757 = .ok (.aload_n 3, 1) := dk_45 (dk_at dksL_law_70 10 rfl rfl)
theorem dL_law_1758 : decode cL_law 1758 = .ok (.invokestatic 189, 3) := dk_184 0 189 (dk_at dksL_law_70 11 rfl rfl)
theorem dL_law_1761 : decode cL_law 1761 = .ok (.istore 5, 2) := dk_54 5 (dk_at dksL_law_70 14 rfl rfl)
theorem dL_law_1763 : decode cL_law 1763 = .ok (.aload_n 2, 1) := dk_44 (dk_at dksL_law_70 16 rfl rfl)
theorem dL_law_1764 : decode cL_law 1764 = .ok (.aload_n 0, 1) := dk_42 (dk_at dksL_law_70 17 rfl rfl)
theorem dL_law_1765 : decode cL_law 1765 = .ok (.iload 4, 2) := dk_21 4 (dk_at dksL_law_70 18 rfl rfl)
theorem dL_law_1767 : decode cL_law 1767 = .ok (.iconst 1, 1) := dk_4 (dk_at dksL_law_70 20 rfl rfl)
theorem dL_law_1768 : decode cL_law 1768 = .ok (.iadd, 1) := dk_96 (dk_at dksL_law_70 21 rfl rfl)
theorem dL_law_1769 : decode cL_law 1769 = .ok (.iaload, 1) := dk_46 (dk_at dksL_law_70 22 rfl rfl)
theorem dL_law_1770 : decode cL_law 1770 = .ok (.invokevirtual 191, 3) := dk_182 0 191 (dk_at dksL_law_71 0 rfl rfl)
theorem dL_law_1773 : decode cL_law 1773 = .ok (.istore 6, 2) := dk_54 6 (dk_at dksL_law_71 3 rfl rfl)
theorem dL_law_1775 : decode cL_law 1775 = .ok (.aload_n 2, 1) := dk_44 (dk_at dksL_law_71 5 rfl rfl)
theorem dL_law_1776 : decode cL_law 1776 = .ok (.invokevirtual 114, 3) := dk_182 0 114 (dk_at dksL_law_71 6 rfl rfl)
theorem dL_law_1779 : decode cL_law 1779 = .ok (.iload 5, 2) := dk_21 5 (dk_at dksL_law_71 9 rfl rfl)
theorem dL_law_1781 : decode cL_law 1781 = .ok (.if_icmp .eq 5, 3) := dk_159 0 5 (dk_at dksL_law_71 11 rfl rfl)
theorem dL_law_1784 : decode cL_law 1784 = .ok (.iconst 0, 1) := dk_3 (dk_at dksL_law_71 14 rfl rfl)
theorem dL_law_1785 : decode cL_law 1785 = .ok (.ireturn, 1) := dk_172 (dk_at dksL_law_71 15 rfl rfl)
theorem dL_law_1786 : decode cL_law 1786 = .ok (.iload 5, 2) := dk_21 5 (dk_at dksL_law_71 16 rfl rfl)
theorem dL_law_1788 : decode cL_law 1788 = .ok (.ifCond .ne 15, 3) := dk_154 0 15 (dk_at dksL_law_71 18 rfl rfl)
theorem dL_law_1791 : decode cL_law 1791 = .ok (.aload_n 3, 1) := dk_45 (dk_at dksL_law_71 21 rfl rfl)
theorem dL_law_1792 : decode cL_law 1792 = .ok (.iconst 0, 1) := dk_3 (dk_at dksL_law_71 22 rfl rfl)
theorem dL_law_1793 : decode cL_law 1793 = .ok (.laload, 1) := dk_47 (dk_at dksL_law_71 23 rfl rfl)
theorem dL_law_1794 : decode cL_law 1794 = .ok (.iload 6, 2) := dk_21 6 (dk_at dksL_law_72 0 rfl rfl)
theorem dL_law_1796 : decode cL_law 1796 = .ok (.i2l, 1) := dk_133 (dk_at dksL_law_72 2 rfl rfl)
theorem dL_law_1797 : decode cL_law 1797 = .ok (.lcmp, 1) := dk_148 (dk_at dksL_law_72 3 rfl rfl)
theorem dL_law_1798 : decode cL_law 1798 = .ok (.ifCond .eq 5, 3) := dk_153 0 5 (dk_at dksL_law_72 4 rfl rfl)
theorem dL_law_1801 : decode cL_law 1801 = .ok (.iconst 0, 1) := dk_3 (dk_at dksL_law_72 7 rfl rfl)
theorem dL_law_1802 : decode cL_law 1802 = .ok (.ireturn, 1) := dk_172 (dk_at dksL_law_72 8 rfl rfl)
theorem dL_law_1803 : decode cL_law 1803 = .ok (.goto 408, 3) := dk_167 1 152 (dk_at dksL_law_72 9 rfl rfl)
theorem dL_law_1806 : decode cL_law 1806 = .ok (.aload_n 1, 1) := dk_43 (dk_at dksL_law_72 12 rfl rfl)
theorem dL_law_1807 : decode cL_law 1807 = .ok (.aload_n 0, 1) := dk_42 (dk_at dksL_law_72 13 rfl rfl)
theorem dL_law_1808 : decode cL_law 1808 = .ok (.iload 4, 2) := dk_21 4 (dk_at dksL_law_72 14 rfl rfl)
theorem dL_law_1810 : decode cL_law 1810 = .ok (.iconst 1, 1) := dk_4 (dk_at dksL_law_72 16 rfl rfl)
theorem dL_law_1811 : decode cL_law 1811 = .ok (.iadd, 1) := dk_96 (dk_at dksL_law_72 17 rfl rfl)
theorem dL_law_1812 : decode cL_law 1812 = .ok (.iaload, 1) := dk_46 (dk_at dksL_law_72 18 rfl rfl)
theorem dL_law_1813 : decode cL_law 1813 = .ok (.aload_n 3, 1) := dk_45 (dk_at dksL_law_72 19 rfl rfl)
theorem dL_law_1814 : decode cL_law 1814 = .ok (.invokestatic 192, 3) := dk_184 0 192 (dk_at dksL_law_72 20 rfl rfl)
theorem dL_law_1817 : decode cL_law 1817 = .ok (.istore 5, 2) := dk_54 5 (dk_at dksL_law_73 0 rfl rfl)
theorem dL_law_1819 : decode cL_law 1819 = .ok (.aload_n 2, 1) := dk_44 (dk_at dksL_law_73 2 rfl rfl)
theorem dL_law_1820 : decode cL_law 1820 = .ok (.aload_n 0, 1) := dk_42 (dk_at dksL_law_73 3 rfl rfl)
theorem dL_law_1821 : decode cL_law 1821 = .ok (.iload 4, 2) := dk_21 4 (dk_at dksL_law_73 4 rfl rfl)
theorem dL_law_1823 : decode cL_law 1823 = .ok (.iconst 1, 1) := dk_4 (dk_at dksL_law_73 6 rfl rfl)
theorem dL_law_1824 : decode cL_law 1824 = .ok (.iadd, 1) := dk_96 (dk_at dksL_law_73 7 rfl rfl)
theorem dL_law_1825 : decode cL_law 1825 = .ok (.iaload, 1) := dk_46 (dk_at dksL_law_73 8 rfl rfl)
theorem dL_law_1826 : decode cL_law 1826 = .ok (.invokevirtual 194, 3) := dk_182 0 194 (dk_at dksL_law_73 9 rfl rfl)
theorem dL_law_1829 : decode cL_law 1829 = .ok (.istore 6, 2) := dk_54 6 (dk_at dksL_law_73 12 rfl rfl)
theorem dL_law_1831 : decode cL_law 1831 = .ok (.aload_n 2, 1) := dk_44 (dk_at dksL_law_73 14 rfl rfl)
theorem dL_law_1832 : decode cL_law 1832 = .ok (.invokevirtual 114, 3) := dk_182 0 114 (dk_at dksL_law_73 15 rfl rfl)
theorem dL_law_1835 : decode cL_law 1835 = .ok (.iload 5, 2) := dk_21 5 (dk_at dksL_law_73 18 rfl rfl)
theorem dL_law_1837 : decode cL_law 1837 = .ok (.if_icmp .eq 5, 3) := dk_159 0 5 (dk_at dksL_law_73 20 rfl rfl)
theorem dL_law_1840 : decode cL_law 1840 = .ok (.iconst 0, 1) := dk_3 (dk_at dksL_law_73 23 rfl rfl)
theorem dL_law_1841 : decode cL_law 1841 = .ok (.ireturn, 1) := dk_172 (dk_at dksL_law_74 0 rfl rfl)
theorem dL_law_1842 : decode cL_law 1842 = .ok (.iload 5, 2) := dk_21 5 (dk_at dksL_law_74 1 rfl rfl)
theorem dL_law_1844 : decode cL_law 1844 = .ok (.ifCond .ne 15, 3) := dk_154 0 15 (dk_at dksL_law_74 3 rfl rfl)
theorem dL_law_1847 : decode cL_law 1847 = .ok (.aload_n 3, 1) := dk_45 (dk_at dksL_law_74 6 rfl rfl)
theorem dL_law_1848 : decode cL_law 1848 = .ok (.iconst 0, 1) := dk_3 (dk_at dksL_law_74 7 rfl rfl)
theorem dL_law_1849 : decode cL_law 1849 = .ok (.laload, 1) := dk_47 (dk_at dksL_law_74 8 rfl rfl)
theorem dL_law_1850 : decode cL_law 1850 = .ok (.iload 6, 2) := dk_21 6 (dk_at dksL_law_74 9 rfl rfl)
theorem dL_law_1852 : decode cL_law 1852 = .ok (.i2l, 1) := dk_133 (dk_at dksL_law_74 11 rfl rfl)
theorem dL_law_1853 : decode cL_law 1853 = .ok (.lcmp, 1) := dk_148 (dk_at dksL_law_74 12 rfl rfl)
theorem dL_law_1854 : decode cL_law 1854 = .ok (.ifCond .eq 5, 3) := dk_153 0 5 (dk_at dksL_law_74 13 rfl rfl)
theorem dL_law_1857 : decode cL_law 1857 = .ok (.iconst 0, 1) := dk_3 (dk_at dksL_law_74 16 rfl rfl)
theorem dL_law_1858 : decode cL_law 1858 = .ok (.ireturn, 1) := dk_172 (dk_at dksL_law_74 17 rfl rfl)
theorem dL_law_1859 : decode cL_law 1859 = .ok (.goto 352, 3) := dk_167 1 96 (dk_at dksL_law_74 18 rfl rfl)
theorem dL_law_1862 : decode cL_law 1862 = .ok (.aload_n 1, 1) := dk_43 (dk_at dksL_law_74 21 rfl rfl)
theorem dL_law_1863 : decode cL_law 1863 = .ok (.aload_n 0, 1) := dk_42 (dk_at dksL_law_74 22 rfl rfl)
theorem dL_law_1864 : decode cL_law 1864 = .ok (.iload 4, 2) := dk_21 4 (dk_at dksL_law_75 0 rfl rfl)
theorem dL_law_1866 : decode cL_law 1866 = .ok (.iconst 1, 1) := dk_4 (dk_at dksL_law_75 2 rfl rfl)
theorem dL_law_1867 : decode cL_law 1867 = .ok (.iadd, 1) := dk_96 (dk_at dksL_law_75 3 rfl rfl)
theorem dL_law_1868 : decode cL_law 1868 = .ok (.iaload, 1) := dk_46 (dk_at dksL_law_75 4 rfl rfl)
theorem dL_law_1869 : decode cL_law 1869 = .ok (.aload_n 0, 1) := dk_42 (dk_at dksL_law_75 5 rfl rfl)
theorem dL_law_1870 : decode cL_law 1870 = .ok (.iload 4, 2) := dk_21 4 (dk_at dksL_law_75 6 rfl rfl)
theorem dL_law_1872 : decode cL_law 1872 = .ok (.iconst 2, 1) := dk_5 (dk_at dksL_law_75 8 rfl rfl)
theorem dL_law_1873 : decode cL_law 1873 = .ok (.iadd, 1) := dk_96 (dk_at dksL_law_75 9 rfl rfl)
theorem dL_law_1874 : decode cL_law 1874 = .ok (.iaload, 1) := dk_46 (dk_at dksL_law_75 10 rfl rfl)
theorem dL_law_1875 : decode cL_law 1875 = .ok (.aload_n 0, 1) := dk_42 (dk_at dksL_law_75 11 rfl rfl)
theorem dL_law_1876 : decode cL_law 1876 = .ok (.iload 4, 2) := dk_21 4 (dk_at dksL_law_75 12 rfl rfl)
theorem dL_law_1878 : decode cL_law 1878 = .ok (.iconst 3, 1) := dk_6 (dk_at dksL_law_75 14 rfl rfl)
theorem dL_law_1879 : decode cL_law 1879 = .ok (.iadd, 1) := dk_96 (dk_at dksL_law_75 15 rfl rfl)
theorem dL_law_1880 : decode cL_law 1880 = .ok (.iaload, 1) := dk_46 (dk_at dksL_law_75 16 rfl rfl)
theorem dL_law_1881 : decode cL_law 1881 = .ok (.ifCond .eq 7, 3) := dk_153 0 7 (dk_at dksL_law_75 17 rfl rfl)
theorem dL_law_1884 : decode cL_law 1884 = .ok (.iconst 1, 1) := dk_4 (dk_at dksL_law_75 20 rfl rfl)
theorem dL_law_1885 : decode cL_law 1885 = .ok (.goto 4, 3) := dk_167 0 4 (dk_at dksL_law_75 21 rfl rfl)
theorem dL_law_1888 : decode cL_law 1888 = .ok (.iconst 0, 1) := dk_3 (dk_at dksL_law_76 0 rfl rfl)
theorem dL_law_1889 : decode cL_law 1889 = .ok (.aload_n 3, 1) := dk_45 (dk_at dksL_law_76 1 rfl rfl)
theorem dL_law_1890 : decode cL_law 1890 = .ok (.invokestatic 195, 3) := dk_184 0 195 (dk_at dksL_law_76 2 rfl rfl)
theorem dL_law_1893 : decode cL_law 1893 = .ok (.istore 5, 2) := dk_54 5 (dk_at dksL_law_76 5 rfl rfl)
theorem dL_law_1895 : decode cL_law 1895 = .ok (.aload_n 2, 1) := dk_44 (dk_at dksL_law_76 7 rfl rfl)
theorem dL_law_1896 : decode cL_law 1896 = .ok (.aload_n 0, 1) := dk_42 (dk_at dksL_law_76 8 rfl rfl)
theorem dL_law_1897 : decode cL_law 1897 = .ok (.iload 4, 2) := dk_21 4 (dk_at dksL_law_76 9 rfl rfl)
theorem dL_law_1899 : decode cL_law 1899 = .ok (.iconst 1, 1) := dk_4 (dk_at dksL_law_76 11 rfl rfl)
theorem dL_law_1900 : decode cL_law 1900 = .ok (.iadd, 1) := dk_96 (dk_at dksL_law_76 12 rfl rfl)
theorem dL_law_1901 : decode cL_law 1901 = .ok (.iaload, 1) := dk_46 (dk_at dksL_law_76 13 rfl rfl)
theorem dL_law_1902 : decode cL_law 1902 = .ok (.aload_n 0, 1) := dk_42 (dk_at dksL_law_76 14 rfl rfl)
theorem dL_law_1903 : decode cL_law 1903 = .ok (.iload 4, 2) := dk_21 4 (dk_at dksL_law_76 15 rfl rfl)
theorem dL_law_1905 : decode cL_law 1905 = .ok (.iconst 2, 1) := dk_5 (dk_at dksL_law_76 17 rfl rfl)
theorem dL_law_1906 : decode cL_law 1906 = .ok (.iadd, 1) := dk_96 (dk_at dksL_law_76 18 rfl rfl)
theorem dL_law_1907 : decode cL_law 1907 = .ok (.iaload, 1) := dk_46 (dk_at dksL_law_76 19 rfl rfl)
theorem dL_law_1908 : decode cL_law 1908 = .ok (.aload_n 0, 1) := dk_42 (dk_at dksL_law_76 20 rfl rfl)
theorem dL_law_1909 : decode cL_law 1909 = .ok (.iload 4, 2) := dk_21 4 (dk_at dksL_law_76 21 rfl rfl)
theorem dL_law_1911 : decode cL_law 1911 = .ok (.iconst 3, 1) := dk_6 (dk_at dksL_law_76 23 rfl rfl)
theorem dL_law_1912 : decode cL_law 1912 = .ok (.iadd, 1) := dk_96 (dk_at dksL_law_77 0 rfl rfl)
theorem dL_law_1913 : decode cL_law 1913 = .ok (.iaload, 1) := dk_46 (dk_at dksL_law_77 1 rfl rfl)
theorem dL_law_1914 : decode cL_law 1914 = .ok (.ifCond .eq 7, 3) := dk_153 0 7 (dk_at dksL_law_77 2 rfl rfl)
theorem dL_law_1917 : decode cL_law 1917 = .ok (.iconst 1, 1) := dk_4 (dk_at dksL_law_77 5 rfl rfl)
theorem dL_law_1918 : decode cL_law 1918 = .ok (.goto 4, 3) := dk_167 0 4 (dk_at dksL_law_77 6 rfl rfl)
theorem dL_law_1921 : decode cL_law 1921 = .ok (.iconst 0, 1) := dk_3 (dk_at dksL_law_77 9 rfl rfl)
theorem dL_law_1922 : decode cL_law 1922 = .ok (.invokevirtual 198, 3) := dk_182 0 198 (dk_at dksL_law_77 10 rfl rfl)
theorem dL_law_1925 : decode cL_law 1925 = .ok (.istore 6, 2) := dk_54 6 (dk_at dksL_law_77 13 rfl rfl)
theorem dL_law_1927 : decode cL_law 1927 = .ok (.aload_n 2, 1) := dk_44 (dk_at dksL_law_77 15 rfl rfl)
theorem dL_law_1928 : decode cL_law 1928 = .ok (.invokevirtual 114, 3) := dk_182 0 114 (dk_at dksL_law_77 16 rfl rfl)
theorem dL_law_1931 : decode cL_law 1931 = .ok (.iload 5, 2) := dk_21 5 (dk_at dksL_law_77 19 rfl rfl)
theorem dL_law_1933 : decode cL_law 1933 = .ok (.if_icmp .eq 5, 3) := dk_159 0 5 (dk_at dksL_law_77 21 rfl rfl)
theorem dL_law_1936 : decode cL_law 1936 = .ok (.iconst 0, 1) := dk_3 (dk_at dksL_law_78 0 rfl rfl)
theorem dL_law_1937 : decode cL_law 1937 = .ok (.ireturn, 1) := dk_172 (dk_at dksL_law_78 1 rfl rfl)
theorem dL_law_1938 : decode cL_law 1938 = .ok (.iload 5, 2) := dk_21 5 (dk_at dksL_law_78 2 rfl rfl)
theorem dL_law_1940 : decode cL_law 1940 = .ok (.ifCond .ne 15, 3) := dk_154 0 15 (dk_at dksL_law_78 4 rfl rfl)
theorem dL_law_1943 : decode cL_law 1943 = .ok (.aload_n 3, 1) := dk_45 (dk_at dksL_law_78 7 rfl rfl)
theorem dL_law_1944 : decode cL_law 1944 = .ok (.iconst 0, 1) := dk_3 (dk_at dksL_law_78 8 rfl rfl)
theorem dL_law_1945 : decode cL_law 1945 = .ok (.laload, 1) := dk_47 (dk_at dksL_law_78 9 rfl rfl)
theorem dL_law_1946 : decode cL_law 1946 = .ok (.iload 6, 2) := dk_21 6 (dk_at dksL_law_78 10 rfl rfl)
theorem dL_law_1948 : decode cL_law 1948 = .ok (.i2l, 1) := dk_133 (dk_at dksL_law_78 12 rfl rfl)
theorem dL_law_1949 : decode cL_law 1949 = .ok (.lcmp, 1) := dk_148 (dk_at dksL_law_78 13 rfl rfl)
theorem dL_law_1950 : decode cL_law 1950 = .ok (.ifCond .eq 5, 3) := dk_153 0 5 (dk_at dksL_law_78 14 rfl rfl)
theorem dL_law_1953 : decode cL_law 1953 = .ok (.iconst 0, 1) := dk_3 (dk_at dksL_law_78 17 rfl rfl)
theorem dL_law_1954 : decode cL_law 1954 = .ok (.ireturn, 1) := dk_172 (dk_at dksL_law_78 18 rfl rfl)
theorem dL_law_1955 : decode cL_law 1955 = .ok (.goto 256, 3) := dk_167 1 0 (dk_at dksL_law_78 19 rfl rfl)
theorem dL_law_1958 : decode cL_law 1958 = .ok (.aload_n 1, 1) := dk_43 (dk_at dksL_law_78 22 rfl rfl)
theorem dL_law_1959 : decode cL_law 1959 = .ok (.invokevirtual 199, 3) := dk_182 0 199 (dk_at dksL_law_79 0 rfl rfl)
theorem dL_law_1962 : decode cL_law 1962 = .ok (.aload_n 2, 1) := dk_44 (dk_at dksL_law_79 3 rfl rfl)
theorem dL_law_1963 : decode cL_law 1963 = .ok (.invokevirtual 202, 3) := dk_182 0 202 (dk_at dksL_law_79 4 rfl rfl)
theorem dL_law_1966 : decode cL_law 1966 = .ok (.if_icmp .eq 245, 3) := dk_159 0 245 (dk_at dksL_law_79 7 rfl rfl)
theorem dL_law_1969 : decode cL_law 1969 = .ok (.iconst 0, 1) := dk_3 (dk_at dksL_law_79 10 rfl rfl)
theorem dL_law_1970 : decode cL_law 1970 = .ok (.ireturn, 1) := dk_172 (dk_at dksL_law_79 11 rfl rfl)
theorem dL_law_1971 : decode cL_law 1971 = .ok (.aload_n 1, 1) := dk_43 (dk_at dksL_law_79 12 rfl rfl)
theorem dL_law_1972 : decode cL_law 1972 = .ok (.aload_n 0, 1) := dk_42 (dk_at dksL_law_79 13 rfl rfl)
theorem dL_law_1973 : decode cL_law 1973 = .ok (.iload 4, 2) := dk_21 4 (dk_at dksL_law_79 14 rfl rfl)
theorem dL_law_1975 : decode cL_law 1975 = .ok (.iconst 1, 1) := dk_4 (dk_at dksL_law_79 16 rfl rfl)
theorem dL_law_1976 : decode cL_law 1976 = .ok (.iadd, 1) := dk_96 (dk_at dksL_law_79 17 rfl rfl)
theorem dL_law_1977 : decode cL_law 1977 = .ok (.iaload, 1) := dk_46 (dk_at dksL_law_79 18 rfl rfl)
theorem dL_law_1978 : decode cL_law 1978 = .ok (.aload_n 0, 1) := dk_42 (dk_at dksL_law_79 19 rfl rfl)
theorem dL_law_1979 : decode cL_law 1979 = .ok (.iload 4, 2) := dk_21 4 (dk_at dksL_law_79 20 rfl rfl)
theorem dL_law_1981 : decode cL_law 1981 = .ok (.iconst 2, 1) := dk_5 (dk_at dksL_law_79 22 rfl rfl)
theorem dL_law_1982 : decode cL_law 1982 = .ok (.iadd, 1) := dk_96 (dk_at dksL_law_79 23 rfl rfl)
theorem dL_law_1983 : decode cL_law 1983 = .ok (.iaload, 1) := dk_46 (dk_at dksL_law_80 0 rfl rfl)
theorem dL_law_1984 : decode cL_law 1984 = .ok (.aload_n 3, 1) := dk_45 (dk_at dksL_law_80 1 rfl rfl)
theorem dL_law_1985 : decode cL_law 1985 = .ok (.invokestatic 203, 3) := dk_184 0 203 (dk_at dksL_law_80 2 rfl rfl)
theorem dL_law_1988 : decode cL_law 1988 = .ok (.istore 5, 2) := dk_54 5 (dk_at dksL_law_80 5 rfl rfl)
theorem dL_law_1990 : decode cL_law 1990 = .ok (.aload_n 2, 1) := dk_44 (dk_at dksL_law_80 7 rfl rfl)
theorem dL_law_1991 : decode cL_law 1991 = .ok (.aload_n 0, 1) := dk_42 (dk_at dksL_law_80 8 rfl rfl)
theorem dL_law_1992 : decode cL_law 1992 = .ok (.iload 4, 2) := dk_21 4 (dk_at dksL_law_80 9 rfl rfl)
theorem dL_law_1994 : decode cL_law 1994 = .ok (.iconst 1, 1) := dk_4 (dk_at dksL_law_80 11 rfl rfl)
theorem dL_law_1995 : decode cL_law 1995 = .ok (.iadd, 1) := dk_96 (dk_at dksL_law_80 12 rfl rfl)
theorem dL_law_1996 : decode cL_law 1996 = .ok (.iaload, 1) := dk_46 (dk_at dksL_law_80 13 rfl rfl)
theorem dL_law_1997 : decode cL_law 1997 = .ok (.aload_n 0, 1) := dk_42 (dk_at dksL_law_80 14 rfl rfl)
theorem dL_law_1998 : decode cL_law 1998 = .ok (.iload 4, 2) := dk_21 4 (dk_at dksL_law_80 15 rfl rfl)
theorem dL_law_2000 : decode cL_law 2000 = .ok (.iconst 2, 1) := dk_5 (dk_at dksL_law_80 17 rfl rfl)
theorem dL_law_2001 : decode cL_law 2001 = .ok (.iadd, 1) := dk_96 (dk_at dksL_law_80 18 rfl rfl)
theorem dL_law_2002 : decode cL_law 2002 = .ok (.iaload, 1) := dk_46 (dk_at dksL_law_80 19 rfl rfl)
theorem dL_law_2003 : decode cL_law 2003 = .ok (.invokevirtual 205, 3) := dk_182 0 205 (dk_at dksL_law_80 20 rfl rfl)
theorem dL_law_2006 : decode cL_law 2006 = .ok (.istore 6, 2) := dk_54 6 (dk_at dksL_law_81 0 rfl rfl)
theorem dL_law_2008 : decode cL_law 2008 = .ok (.aload_n 2, 1) := dk_44 (dk_at dksL_law_81 2 rfl rfl)
theorem dL_law_2009 : decode cL_law 2009 = .ok (.invokevirtual 114, 3) := dk_182 0 114 (dk_at dksL_law_81 3 rfl rfl)
theorem dL_law_2012 : decode cL_law 2012 = .ok (.iload 5, 2) := dk_21 5 (dk_at dksL_law_81 6 rfl rfl)
theorem dL_law_2014 : decode cL_law 2014 = .ok (.if_icmp .eq 5, 3) := dk_159 0 5 (dk_at dksL_law_81 8 rfl rfl)
theorem dL_law_2017 : decode cL_law 2017 = .ok (.iconst 0, 1) := dk_3 (dk_at dksL_law_81 11 rfl rfl)
theorem dL_law_2018 : decode cL_law 2018 = .ok (.ireturn, 1) := dk_172 (dk_at dksL_law_81 12 rfl rfl)
theorem dL_law_2019 : decode cL_law 2019 = .ok (.iload 5, 2) := dk_21 5 (dk_at dksL_law_81 13 rfl rfl)
theorem dL_law_2021 : decode cL_law 2021 = .ok (.ifCond .ne 15, 3) := dk_154 0 15 (dk_at dksL_law_81 15 rfl rfl)
theorem dL_law_2024 : decode cL_law 2024 = .ok (.aload_n 3, 1) := dk_45 (dk_at dksL_law_81 18 rfl rfl)
theorem dL_law_2025 : decode cL_law 2025 = .ok (.iconst 0, 1) := dk_3 (dk_at dksL_law_81 19 rfl rfl)
theorem dL_law_2026 : decode cL_law 2026 = .ok (.laload, 1) := dk_47 (dk_at dksL_law_81 20 rfl rfl)
theorem dL_law_2027 : decode cL_law 2027 = .ok (.iload 6, 2) := dk_21 6 (dk_at dksL_law_81 21 rfl rfl)
theorem dL_law_2029 : decode cL_law 2029 = .ok (.i2l, 1) := dk_133 (dk_at dksL_law_81 23 rfl rfl)
theorem dL_law_2030 : decode cL_law 2030 = .ok (.lcmp, 1) := dk_148 (dk_at dksL_law_82 0 rfl rfl)
theorem dL_law_2031 : decode cL_law 2031 = .ok (.ifCond .eq 5, 3) := dk_153 0 5 (dk_at dksL_law_82 1 rfl rfl)
theorem dL_law_2034 : decode cL_law 2034 = .ok (.iconst 0, 1) := dk_3 (dk_at dksL_law_82 4 rfl rfl)
theorem dL_law_2035 : decode cL_law 2035 = .ok (.ireturn, 1) := dk_172 (dk_at dksL_law_82 5 rfl rfl)
theorem dL_law_2036 : decode cL_law 2036 = .ok (.goto 175, 3) := dk_167 0 175 (dk_at dksL_law_82 6 rfl rfl)
theorem dL_law_2039 : decode cL_law 2039 = .ok (.aload_n 1, 1) := dk_43 (dk_at dksL_law_82 9 rfl rfl)
theorem dL_law_2040 : decode cL_law 2040 = .ok (.aload_n 0, 1) := dk_42 (dk_at dksL_law_82 10 rfl rfl)
theorem dL_law_2041 : decode cL_law 2041 = .ok (.iload 4, 2) := dk_21 4 (dk_at dksL_law_82 11 rfl rfl)
theorem dL_law_2043 : decode cL_law 2043 = .ok (.iconst 1, 1) := dk_4 (dk_at dksL_law_82 13 rfl rfl)
theorem dL_law_2044 : decode cL_law 2044 = .ok (.iadd, 1) := dk_96 (dk_at dksL_law_82 14 rfl rfl)
theorem dL_law_2045 : decode cL_law 2045 = .ok (.iaload, 1) := dk_46 (dk_at dksL_law_82 15 rfl rfl)
theorem dL_law_2046 : decode cL_law 2046 = .ok (.aload_n 0, 1) := dk_42 (dk_at dksL_law_82 16 rfl rfl)
theorem dL_law_2047 : decode cL_law 2047 = .ok (.iload 4, 2) := dk_21 4 (dk_at dksL_law_82 17 rfl rfl)
theorem dL_law_2049 : decode cL_law 2049 = .ok (.iconst 2, 1) := dk_5 (dk_at dksL_law_82 19 rfl rfl)
theorem dL_law_2050 : decode cL_law 2050 = .ok (.iadd, 1) := dk_96 (dk_at dksL_law_82 20 rfl rfl)
theorem dL_law_2051 : decode cL_law 2051 = .ok (.iaload, 1) := dk_46 (dk_at dksL_law_82 21 rfl rfl)
theorem dL_law_2052 : decode cL_law 2052 = .ok (.aload_n 3, 1) := dk_45 (dk_at dksL_law_82 22 rfl rfl)
theorem dL_law_2053 : decode cL_law 2053 = .ok (.invokestatic 206, 3) := dk_184 0 206 (dk_at dksL_law_83 0 rfl rfl)
theorem dL_law_2056 : decode cL_law 2056 = .ok (.istore 5, 2) := dk_54 5 (dk_at dksL_law_83 3 rfl rfl)
theorem dL_law_2058 : decode cL_law 2058 = .ok (.aload_n 2, 1) := dk_44 (dk_at dksL_law_83 5 rfl rfl)
theorem dL_law_2059 : decode cL_law 2059 = .ok (.aload_n 0, 1) := dk_42 (dk_at dksL_law_83 6 rfl rfl)
theorem dL_law_2060 : decode cL_law 2060 = .ok (.iload 4, 2) := dk_21 4 (dk_at dksL_law_83 7 rfl rfl)
theorem dL_law_2062 : decode cL_law 2062 = .ok (.iconst 1, 1) := dk_4 (dk_at dksL_law_83 9 rfl rfl)
theorem dL_law_2063 : decode cL_law 2063 = .ok (.iadd, 1) := dk_96 (dk_at dksL_law_83 10 rfl rfl)
theorem dL_law_2064 : decode cL_law 2064 = .ok (.iaload, 1) := dk_46 (dk_at dksL_law_83 11 rfl rfl)
theorem dL_law_2065 : decode cL_law 2065 = .ok (.aload_n 0, 1) := dk_42 (dk_at dksL_law_83 12 rfl rfl)
theorem dL_law_2066 : decode cL_law 2066 = .ok (.iload 4, 2) := dk_21 4 (dk_at dksL_law_83 13 rfl rfl)
theorem dL_law_2068 : decode cL_law 2068 = .ok (.iconst 2, 1) := dk_5 (dk_at dksL_law_83 15 rfl rfl)
theorem dL_law_2069 : decode cL_law 2069 = .ok (.iadd, 1) := dk_96 (dk_at dksL_law_83 16 rfl rfl)
theorem dL_law_2070 : decode cL_law 2070 = .ok (.iaload, 1) := dk_46 (dk_at dksL_law_83 17 rfl rfl)
theorem dL_law_2071 : decode cL_law 2071 = .ok (.invokevirtual 208, 3) := dk_182 0 208 (dk_at dksL_law_83 18 rfl rfl)
theorem dL_law_2074 : decode cL_law 2074 = .ok (.istore 6, 2) := dk_54 6 (dk_at dksL_law_83 21 rfl rfl)
theorem dL_law_2076 : decode cL_law 2076 = .ok (.aload_n 2, 1) := dk_44 (dk_at dksL_law_83 23 rfl rfl)
theorem dL_law_2077 : decode cL_law 2077 = .ok (.invokevirtual 114, 3) := dk_182 0 114 (dk_at dksL_law_84 0 rfl rfl)
theorem dL_law_2080 : decode cL_law 2080 = .ok (.iload 5, 2) := dk_21 5 (dk_at dksL_law_84 3 rfl rfl)
theorem dL_law_2082 : decode cL_law 2082 = .ok (.if_icmp .eq 5, 3) := dk_159 0 5 (dk_at dksL_law_84 5 rfl rfl)
theorem dL_law_2085 : decode cL_law 2085 = .ok (.iconst 0, 1) := dk_3 (dk_at dksL_law_84 8 rfl rfl)
theorem dL_law_2086 : decode cL_law 2086 = .ok (.ireturn, 1) := dk_172 (dk_at dksL_law_84 9 rfl rfl)
theorem dL_law_2087 : decode cL_law 2087 = .ok (.iload 5, 2) := dk_21 5 (dk_at dksL_law_84 10 rfl rfl)
theorem dL_law_2089 : decode cL_law 2089 = .ok (.ifCond .ne 15, 3) := dk_154 0 15 (dk_at dksL_law_84 12 rfl rfl)
theorem dL_law_2092 : decode cL_law 2092 = .ok (.aload_n 3, 1) := dk_45 (dk_at dksL_law_84 15 rfl rfl)
theorem dL_law_2093 : decode cL_law 2093 = .ok (.iconst 0, 1) := dk_3 (dk_at dksL_law_84 16 rfl rfl)
theorem dL_law_2094 : decode cL_law 2094 = .ok (.laload, 1) := dk_47 (dk_at dksL_law_84 17 rfl rfl)
theorem dL_law_2095 : decode cL_law 2095 = .ok (.iload 6, 2) := dk_21 6 (dk_at dksL_law_84 18 rfl rfl)
theorem dL_law_2097 : decode cL_law 2097 = .ok (.i2l, 1) := dk_133 (dk_at dksL_law_84 20 rfl rfl)
theorem dL_law_2098 : decode cL_law 2098 = .ok (.lcmp, 1) := dk_148 (dk_at dksL_law_84 21 rfl rfl)
theorem dL_law_2099 : decode cL_law 2099 = .ok (.ifCond .eq 5, 3) := dk_153 0 5 (dk_at dksL_law_85 0 rfl rfl)
theorem dL_law_2102 : decode cL_law 2102 = .ok (.iconst 0, 1) := dk_3 (dk_at dksL_law_85 3 rfl rfl)
theorem dL_law_2103 : decode cL_law 2103 = .ok (.ireturn, 1) := dk_172 (dk_at dksL_law_85 4 rfl rfl)
theorem dL_law_2104 : decode cL_law 2104 = .ok (.goto 107, 3) := dk_167 0 107 (dk_at dksL_law_85 5 rfl rfl)
theorem dL_law_2107 : decode cL_law 2107 = .ok (.aload_n 1, 1) := dk_43 (dk_at dksL_law_85 8 rfl rfl)
theorem dL_law_2108 : decode cL_law 2108 = .ok (.aload_n 0, 1) := dk_42 (dk_at dksL_law_85 9 rfl rfl)
theorem dL_law_2109 : decode cL_law 2109 = .ok (.iload 4, 2) := dk_21 4 (dk_at dksL_law_85 10 rfl rfl)
theorem dL_law_2111 : decode cL_law 2111 = .ok (.iconst 1, 1) := dk_4 (dk_at dksL_law_85 12 rfl rfl)
theorem dL_law_2112 : decode cL_law 2112 = .ok (.iadd, 1) := dk_96 (dk_at dksL_law_85 13 rfl rfl)
theorem dL_law_2113 : decode cL_law 2113 = .ok (.iaload, 1) := dk_46 (dk_at dksL_law_85 14 rfl rfl)
theorem dL_law_2114 : decode cL_law 2114 = .ok (.aload_n 0, 1) := dk_42 (dk_at dksL_law_85 15 rfl rfl)
theorem dL_law_2115 : decode cL_law 2115 = .ok (.iload 4, 2) := dk_21 4 (dk_at dksL_law_85 16 rfl rfl)
theorem dL_law_2117 : decode cL_law 2117 = .ok (.iconst 2, 1) := dk_5 (dk_at dksL_law_85 18 rfl rfl)
theorem dL_law_2118 : decode cL_law 2118 = .ok (.iadd, 1) := dk_96 (dk_at dksL_law_85 19 rfl rfl)
theorem dL_law_2119 : decode cL_law 2119 = .ok (.iaload, 1) := dk_46 (dk_at dksL_law_85 20 rfl rfl)
theorem dL_law_2120 : decode cL_law 2120 = .ok (.aload_n 0, 1) := dk_42 (dk_at dksL_law_85 21 rfl rfl)
theorem dL_law_2121 : decode cL_law 2121 = .ok (.iload 4, 2) := dk_21 4 (dk_at dksL_law_85 22 rfl rfl)
theorem dL_law_2123 : decode cL_law 2123 = .ok (.iconst 3, 1) := dk_6 (dk_at dksL_law_86 0 rfl rfl)
theorem dL_law_2124 : decode cL_law 2124 = .ok (.iadd, 1) := dk_96 (dk_at dksL_law_86 1 rfl rfl)
theorem dL_law_2125 : decode cL_law 2125 = .ok (.iaload, 1) := dk_46 (dk_at dksL_law_86 2 rfl rfl)
theorem dL_law_2126 : decode cL_law 2126 = .ok (.aload_n 3, 1) := dk_45 (dk_at dksL_law_86 3 rfl rfl)
theorem dL_law_2127 : decode cL_law 2127 = .ok (.invokestatic 209, 3) := dk_184 0 209 (dk_at dksL_law_86 4 rfl rfl)
theorem dL_law_2130 : decode cL_law 2130 = .ok (.istore 5, 2) := dk_54 5 (dk_at dksL_law_86 7 rfl rfl)
theorem dL_law_2132 : decode cL_law 2132 = .ok (.aload_n 2, 1) := dk_44 (dk_at dksL_law_86 9 rfl rfl)
theorem dL_law_2133 : decode cL_law 2133 = .ok (.aload_n 0, 1) := dk_42 (dk_at dksL_law_86 10 rfl rfl)
theorem dL_law_2134 : decode cL_law 2134 = .ok (.iload 4, 2) := dk_21 4 (dk_at dksL_law_86 11 rfl rfl)
theorem dL_law_2136 : decode cL_law 2136 = .ok (.iconst 1, 1) := dk_4 (dk_at dksL_law_86 13 rfl rfl)
theorem dL_law_2137 : decode cL_law 2137 = .ok (.iadd, 1) := dk_96 (dk_at dksL_law_86 14 rfl rfl)
theorem dL_law_2138 : decode cL_law 2138 = .ok (.iaload, 1) := dk_46 (dk_at dksL_law_86 15 rfl rfl)
theorem dL_law_2139 : decode cL_law 2139 = .ok (.aload_n 0, 1) := dk_42 (dk_at dksL_law_86 16 rfl rfl)
theorem dL_law_2140 : decode cL_law 2140 = .ok (.iload 4, 2) := dk_21 4 (dk_at dksL_law_86 17 rfl rfl)
theorem dL_law_2142 : decode cL_law 2142 = .ok (.iconst 2, 1) := dk_5 (dk_at dksL_law_86 19 rfl rfl)
theorem dL_law_2143 : decode cL_law 2143 = .ok (.iadd, 1) := dk_96 (dk_at dksL_law_86 20 rfl rfl)
theorem dL_law_2144 : decode cL_law 2144 = .ok (.iaload, 1) := dk_46 (dk_at dksL_law_86 21 rfl rfl)
theorem dL_law_2145 : decode cL_law 2145 = .ok (.aload_n 0, 1) := dk_42 (dk_at dksL_law_86 22 rfl rfl)
theorem dL_law_2146 : decode cL_law 2146 = .ok (.iload 4, 2) := dk_21 4 (dk_at dksL_law_87 0 rfl rfl)
theorem dL_law_2148 : decode cL_law 2148 = .ok (.iconst 3, 1) := dk_6 (dk_at dksL_law_87 2 rfl rfl)
theorem dL_law_2149 : decode cL_law 2149 = .ok (.iadd, 1) := dk_96 (dk_at dksL_law_87 3 rfl rfl)
theorem dL_law_2150 : decode cL_law 2150 = .ok (.iaload, 1) := dk_46 (dk_at dksL_law_87 4 rfl rfl)
theorem dL_law_2151 : decode cL_law 2151 = .ok (.invokevirtual 211, 3) := dk_182 0 211 (dk_at dksL_law_87 5 rfl rfl)
theorem dL_law_2154 : decode cL_law 2154 = .ok (.istore 6, 2) := dk_54 6 (dk_at dksL_law_87 8 rfl rfl)
theorem dL_law_2156 : decode cL_law 2156 = .ok (.aload_n 2, 1) := dk_44 (dk_at dksL_law_87 10 rfl rfl)
theorem dL_law_2157 : decode cL_law 2157 = .ok (.invokevirtual 114, 3) := dk_182 0 114 (dk_at dksL_law_87 11 rfl rfl)
theorem dL_law_2160 : decode cL_law 2160 = .ok (.iload 5, 2) := dk_21 5 (dk_at dksL_law_87 14 rfl rfl)
theorem dL_law_2162 : decode cL_law 2162 = .ok (.if_icmp .eq 5, 3) := dk_159 0 5 (dk_at dksL_law_87 16 rfl rfl)
theorem dL_law_2165 : decode cL_law 2165 = .ok (.iconst 0, 1) := dk_3 (dk_at dksL_law_87 19 rfl rfl)
theorem dL_law_2166 : decode cL_law 2166 = .ok (.ireturn, 1) := dk_172 (dk_at dksL_law_87 20 rfl rfl)
theorem dL_law_2167 : decode cL_law 2167 = .ok (.iload 5, 2) := dk_21 5 (dk_at dksL_law_87 21 rfl rfl)
theorem dL_law_2169 : decode cL_law 2169 = .ok (.ifCond .ne 15, 3) := dk_154 0 15 (dk_at dksL_law_88 0 rfl rfl)
theorem dL_law_2172 : decode cL_law 2172 = .ok (.aload_n 3, 1) := dk_45 (dk_at dksL_law_88 3 rfl rfl)
theorem dL_law_2173 : decode cL_law 2173 = .ok (.iconst 0, 1) := dk_3 (dk_at dksL_law_88 4 rfl rfl)
theorem dL_law_2174 : decode cL_law 2174 = .ok (.laload, 1) := dk_47 (dk_at dksL_law_88 5 rfl rfl)
theorem dL_law_2175 : decode cL_law 2175 = .ok (.iload 6, 2) := dk_21 6 (dk_at dksL_law_88 6 rfl rfl)
theorem dL_law_2177 : decode cL_law 2177 = .ok (.i2l, 1) := dk_133 (dk_at dksL_law_88 8 rfl rfl)
theorem dL_law_2178 : decode cL_law 2178 = .ok (.lcmp, 1) := dk_148 (dk_at dksL_law_88 9 rfl rfl)
theorem dL_law_2179 : decode cL_law 2179 = .ok (.ifCond .eq 5, 3) := dk_153 0 5 (dk_at dksL_law_88 10 rfl rfl)
theorem dL_law_2182 : decode cL_law 2182 = .ok (.iconst 0, 1) := dk_3 (dk_at dksL_law_88 13 rfl rfl)
theorem dL_law_2183 : decode cL_law 2183 = .ok (.ireturn, 1) := dk_172 (dk_at dksL_law_88 14 rfl rfl)
theorem dL_law_2184 : decode cL_law 2184 = .ok (.goto 27, 3) := dk_167 0 27 (dk_at dksL_law_88 15 rfl rfl)
theorem dL_law_2187 : decode cL_law 2187 = .ok (.aload_n 1, 1) := dk_43 (dk_at dksL_law_88 18 rfl rfl)
theorem dL_law_2188 : decode cL_law 2188 = .ok (.invokevirtual 212, 3) := dk_182 0 212 (dk_at dksL_law_88 19 rfl rfl)
theorem dL_law_2191 : decode cL_law 2191 = .ok (.aload_n 2, 1) := dk_44 (dk_at dksL_law_88 22 rfl rfl)
theorem dL_law_2192 : decode cL_law 2192 = .ok (.invokevirtual 215, 3) := dk_182 0 215 (dk_at dksL_law_89 0 rfl rfl)
theorem dL_law_2195 : decode cL_law 2195 = .ok (.goto 16, 3) := dk_167 0 16 (dk_at dksL_law_89 3 rfl rfl)
theorem dL_law_2198 : decode cL_law 2198 = .ok (.aload_n 1, 1) := dk_43 (dk_at dksL_law_89 6 rfl rfl)
theorem dL_law_2199 : decode cL_law 2199 = .ok (.invokevirtual 216, 3) := dk_182 0 216 (dk_at dksL_law_89 7 rfl rfl)
theorem dL_law_2202 : decode cL_law 2202 = .ok (.aload_n 2, 1) := dk_44 (dk_at dksL_law_89 10 rfl rfl)
theorem dL_law_2203 : decode cL_law 2203 = .ok (.invokevirtual 220, 3) := dk_182 0 220 (dk_at dksL_law_89 11 rfl rfl)
theorem dL_law_2206 : decode cL_law 2206 = .ok (.if_icmp .eq 5, 3) := dk_159 0 5 (dk_at dksL_law_89 14 rfl rfl)
theorem dL_law_2209 : decode cL_law 2209 = .ok (.iconst 0, 1) := dk_3 (dk_at dksL_law_89 17 rfl rfl)
theorem dL_law_2210 : decode cL_law 2210 = .ok (.ireturn, 1) := dk_172 (dk_at dksL_law_89 18 rfl rfl)
theorem dL_law_2211 : decode cL_law 2211 = .ok (.iinc 4 6, 3) := dk_132 4 6 (dk_at dksL_law_89 19 rfl rfl)
theorem dL_law_2214 : decode cL_law 2214 = .ok (.goto (-2191), 3) := dk_167 247 113 (dk_at dksL_law_90 0 rfl rfl)
theorem dL_law_2217 : decode cL_law 2217 = .ok (.iconst 1, 1) := dk_4 (dk_at dksL_law_90 3 rfl rfl)
theorem dL_law_2218 : decode cL_law 2218 = .ok (.ireturn, 1) := dk_172 (dk_at dksL_law_90 4 rfl rfl)

