/-! ApartBenchModel -/
set_option maxRecDepth 100000
def RX8 : String := "ApartBenchModel"
def TX8 : u_T := fun k => match k with
  | 0 => ("ApartBenchModel", "kinds", "[Ljava/lang/String;", true)
  | 1 => ("ApartBenchModel", "values", "[Ljava/lang/String;", true)
  | 2 => ("ApartBenchModel", "code", "I", false)
  | 3 => ("ApartBenchModel", "told", "[I", true)
  | 4 => ("ApartBenchModel", "road", "[I", true)
  | 5 => ("ApartBenchModel", "kind", "[I", true)
  | 6 => ("ApartBenchModel", "start", "[I", true)
  | 7 => ("ApartBenchModel", "harsh", "[I", true)
  | 8 => ("ApartBenchModel", "steps", "[I", true)
  | 9 => ("ApartBenchModel", "route", "[I", true)
  | 10 => ("ApartBenchModel", "proof", "[I", true)
  | 11 => ("ApartBenchModel", "signs", "[I", true)
  | 12 => ("ApartBenchModel", "status", "[I", true)
  | 13 => ("ApartBenchModel", "tape", "[I", true)
  | 14 => ("ApartBenchModel", "taped", "I", false)
  | 15 => ("ApartBenchModel", "at", "I", false)
  | 16 => ("ApartBenchModel", "size", "I", false)
  | 17 => ("ApartBenchModel", "token", "I", false)
  | 18 => ("ApartBenchModel", "number", "I", false)
  | 19 => ("ApartBenchModel", "begins", "I", false)
  | 20 => ("ApartBenchModel", "stops", "I", false)
  | 21 => ("ApartBenchModel", "bad", "I", false)
  | 22 => ("ApartBenchModel", "badPlace", "I", false)
  | 23 => ("ApartBenchModel", "faultPlace", "I", false)
  | 24 => ("ApartBenchModel", "far", "[I", true)
  | 25 => ("ApartBenchModel", "wordRows", "[I", true)
  | 26 => ("ApartBenchModel", "feastRows", "[I", true)
  | 27 => ("ApartBenchModel", "floodRows", "[I", true)
  | 28 => ("ApartBenchModel", "past", "[I", true)
  | 29 => ("ApartBenchModel", "inns", "I", false)
  | 30 => ("ApartBenchModel", "words", "I", false)
  | 31 => ("ApartBenchModel", "feasts", "I", false)
  | 32 => ("ApartBenchModel", "floods", "I", false)
  | 33 => ("ApartBenchModel", "acts", "I", false)
  | 34 => ("ApartBenchModel", "seen", "I", false)
  | 35 => ("ApartBenchModel", "asked", "[I", true)
  | 36 => ("ApartBenchModel", "stack", "[I", true)
  | 37 => ("ApartBenchModel", "stopTown", "[I", true)
  | 38 => ("ApartBenchModel", "stopDay", "[I", true)
  | 39 => ("ApartBenchModel", "meet", "[I", true)
  | 40 => ("ApartBenchModel", "backward", "I", false)
  | 41 => ("ApartBenchModel", "deafSet", "I", false)
  | 42 => ("ApartBenchModel", "mules", "I", false)
  | 43 => ("ApartBenchModel", "muleCase", "I", false)
  | 44 => ("ApartBenchModel", "said", "[I", true)
  | 45 => ("ApartBenchModel", "saidDay", "[I", true)
  | 46 => ("ApartBenchModel", "saidTown", "[I", true)
  | 47 => ("ApartBenchModel", "isVoid", "[I", true)
  | 48 => ("ApartBenchModel", "guiltyDay", "[I", true)
  | 49 => ("ApartBenchModel", "guiltyBy", "[I", true)
  | 50 => ("ApartBenchModel", "seenCase", "[I", true)
  | 51 => ("ApartBenchModel", "seenJudge", "[I", true)
  | 52 => ("ApartBenchModel", "seenVoid", "[I", true)
  | 53 => ("ApartBenchModel", "seedNow", "I", false)
  | 54 => ("ApartBenchModel", "hasImage", "Z", false)
  | 55 => ("ApartBenchModel", "actsThen", "I", false)
  | 56 => ("ApartBenchModel", "seenThen", "I", false)
  | 57 => ("ApartBenchModel", "rowThen", "[I", true)
  | 58 => ("ApartBenchModel", "pastThen", "[I", true)
  | 59 => ("ApartBenchModel", "seenCaseThen", "[I", true)
  | 60 => ("ApartBenchModel", "seenJudgeThen", "[I", true)
  | 61 => ("ApartBenchModel", "seenVoidThen", "[I", true)
  | _ => ("ApartBenchModel", "statusThen", "[I", true)
def tyX8 : Nat → FieldType := fun k => match k with
  | 0 => .array (.object "java/lang/String")
  | 1 => .array (.object "java/lang/String")
  | 2 => .int
  | 3 => .array .int
  | 4 => .array .int
  | 5 => .array .int
  | 6 => .array .int
  | 7 => .array .int
  | 8 => .array .int
  | 9 => .array .int
  | 10 => .array .int
  | 11 => .array .int
  | 12 => .array .int
  | 13 => .array .int
  | 14 => .int
  | 15 => .int
  | 16 => .int
  | 17 => .int
  | 18 => .int
  | 19 => .int
  | 20 => .int
  | 21 => .int
  | 22 => .int
  | 23 => .int
  | 24 => .array .int
  | 25 => .array .int
  | 26 => .array .int
  | 27 => .array .int
  | 28 => .array .int
  | 29 => .int
  | 30 => .int
  | 31 => .int
  | 32 => .int
  | 33 => .int
  | 34 => .int
  | 35 => .array .int
  | 36 => .array .int
  | 37 => .array .int
  | 38 => .array .int
  | 39 => .array .int
  | 40 => .int
  | 41 => .int
  | 42 => .int
  | 43 => .int
  | 44 => .array .int
  | 45 => .array .int
  | 46 => .array .int
  | 47 => .array .int
  | 48 => .array .int
  | 49 => .array .int
  | 50 => .array .int
  | 51 => .array .int
  | 52 => .array .int
  | 53 => .int
  | 54 => .boolean
  | 55 => .int
  | 56 => .int
  | 57 => .array .int
  | 58 => .array .int
  | 59 => .array .int
  | 60 => .array .int
  | 61 => .array .int
  | _ => .array .int
abbrev wsX80 : List Cond := u_ws RX8 TX8 63
set_option maxRecDepth 100000 in
theorem nmX8 : ∀ a, a < 63 → ∀ b, b < 63 → a ≠ b → (TX8 a).2.1 ≠ (TX8 b).2.1 := by decide +kernel
set_option maxRecDepth 100000 in
theorem tyX8_ok : ∀ k, k < 63 → parseFieldDescriptor (TX8 k).2.2.1 = some (tyX8 k) := by decide +kernel
abbrev cX8_init : ByteArray := prog_20_method_1_code
def yX8_init : MethodName := ⟨RX8, "<init>", "()V"⟩
def dkwX8_init_17 : List UInt8 := [42, 16, 8, 188, 10, 181, 0, 141, 42, 16, 8, 188, 10, 181, 0, 144, 42, 6, 188, 10, 181, 0, 147, 177]
abbrev dktX8_init_17 : List UInt8 := dkwX8_init_17 ++ []
def dkwX8_init_16 : List UInt8 := [16, 45, 188, 10, 181, 0, 132, 42, 17, 7, 8, 188, 10, 181, 0, 135, 42, 16, 8, 188, 10, 181, 0, 138]
abbrev dktX8_init_16 : List UInt8 := dkwX8_init_16 ++ dktX8_init_17
def dkwX8_init_15 : List UInt8 := [16, 8, 188, 10, 181, 0, 123, 42, 16, 8, 188, 10, 181, 0, 126, 42, 16, 8, 188, 10, 181, 0, 129, 42]
abbrev dktX8_init_15 : List UInt8 := dkwX8_init_15 ++ dktX8_init_16
def dkwX8_init_14 : List UInt8 := [16, 30, 188, 10, 181, 0, 114, 42, 16, 6, 188, 10, 181, 0, 117, 42, 16, 6, 188, 10, 181, 0, 120, 42]
abbrev dktX8_init_14 : List UInt8 := dkwX8_init_14 ++ dktX8_init_15
def dkwX8_init_13 : List UInt8 := [16, 30, 188, 10, 181, 0, 106, 42, 16, 30, 188, 10, 181, 0, 108, 42, 16, 30, 188, 10, 181, 0, 111, 42]
abbrev dktX8_init_13 : List UInt8 := dkwX8_init_13 ++ dktX8_init_14
def dkwX8_init_12 : List UInt8 := [188, 10, 181, 0, 94, 42, 16, 25, 188, 10, 181, 0, 97, 42, 2, 181, 0, 100, 42, 2, 181, 0, 103, 42]
abbrev dktX8_init_12 : List UInt8 := dkwX8_init_12 ++ dktX8_init_13
def dkwX8_init_11 : List UInt8 := [188, 10, 181, 0, 85, 42, 16, 64, 188, 10, 181, 0, 88, 42, 16, 35, 188, 10, 181, 0, 91, 42, 16, 35]
abbrev dktX8_init_11 : List UInt8 := dkwX8_init_11 ++ dktX8_init_12
def dkwX8_init_10 : List UInt8 := [188, 10, 181, 0, 76, 42, 16, 18, 188, 10, 181, 0, 79, 42, 17, 7, 8, 188, 10, 181, 0, 82, 42, 8]
abbrev dktX8_init_10 : List UInt8 := dkwX8_init_10 ++ dktX8_init_11
def dkwX8_init_9 : List UInt8 := [42, 2, 181, 0, 66, 42, 16, 81, 188, 10, 181, 0, 70, 42, 16, 15, 188, 10, 181, 0, 73, 42, 16, 12]
abbrev dktX8_init_9 : List UInt8 := dkwX8_init_9 ++ dktX8_init_10
def dkwX8_init_8 : List UInt8 := [17, 4, 176, 188, 10, 181, 0, 57, 42, 6, 188, 10, 181, 0, 60, 42, 17, 2, 88, 188, 10, 181, 0, 63]
abbrev dktX8_init_8 : List UInt8 := dkwX8_init_8 ++ dktX8_init_9
def dkwX8_init_7 : List UInt8 := [16, 10, 188, 10, 181, 0, 49, 42, 16, 70, 188, 10, 181, 0, 52, 42, 16, 108, 188, 10, 181, 0, 55, 42]
abbrev dktX8_init_7 : List UInt8 := dkwX8_init_7 ++ dktX8_init_8
def dkwX8_init_6 : List UInt8 := [16, 10, 188, 10, 181, 0, 41, 42, 16, 10, 188, 10, 181, 0, 44, 42, 16, 10, 188, 10, 181, 0, 47, 42]
abbrev dktX8_init_6 : List UInt8 := dkwX8_init_6 ++ dktX8_init_7
def dkwX8_init_5 : List UInt8 := [79, 89, 16, 12, 3, 79, 89, 16, 13, 3, 79, 181, 0, 34, 42, 17, 0, 162, 188, 10, 181, 0, 38, 42]
abbrev dktX8_init_5 : List UInt8 := dkwX8_init_5 ++ dktX8_init_6
def dkwX8_init_4 : List UInt8 := [16, 7, 3, 79, 89, 16, 8, 3, 79, 89, 16, 9, 3, 79, 89, 16, 10, 16, 10, 79, 89, 16, 11, 3]
abbrev dktX8_init_4 : List UInt8 := dkwX8_init_4 ++ dktX8_init_5
def dkwX8_init_3 : List UInt8 := [79, 89, 5, 3, 79, 89, 6, 16, 10, 79, 89, 7, 3, 79, 89, 8, 3, 79, 89, 16, 6, 3, 79, 89]
abbrev dktX8_init_3 : List UInt8 := dkwX8_init_3 ++ dktX8_init_4
def dkwX8_init_2 : List UInt8 := [6, 18, 27, 83, 89, 7, 18, 29, 83, 181, 0, 31, 42, 16, 14, 188, 10, 89, 3, 3, 79, 89, 4, 3]
abbrev dktX8_init_2 : List UInt8 := dkwX8_init_2 ++ dktX8_init_3
def dkwX8_init_1 : List UInt8 := [181, 0, 17, 42, 8, 189, 0, 9, 89, 3, 18, 21, 83, 89, 4, 18, 23, 83, 89, 5, 18, 25, 83, 89]
abbrev dktX8_init_1 : List UInt8 := dkwX8_init_1 ++ dktX8_init_2
def dkwX8_init_0 : List UInt8 := [42, 183, 0, 3, 42, 6, 189, 0, 9, 89, 3, 18, 11, 83, 89, 4, 18, 13, 83, 89, 5, 18, 15, 83]
abbrev dktX8_init_0 : List UInt8 := dkwX8_init_0 ++ dktX8_init_1
theorem dksX8_init_0 : cX8_init.data.toList.drop 0 = dktX8_init_0 := by decide +kernel
theorem dksX8_init_1 : cX8_init.data.toList.drop 24 = dktX8_init_1 := dk_seg dksX8_init_0 24 rfl rfl
theorem dksX8_init_2 : cX8_init.data.toList.drop 48 = dktX8_init_2 := dk_seg dksX8_init_1 24 rfl rfl
theorem dksX8_init_3 : cX8_init.data.toList.drop 72 = dktX8_init_3 := dk_seg dksX8_init_2 24 rfl rfl
theorem dksX8_init_4 : cX8_init.data.toList.drop 96 = dktX8_init_4 := dk_seg dksX8_init_3 24 rfl rfl
theorem dksX8_init_5 : cX8_init.data.toList.drop 120 = dktX8_init_5 := dk_seg dksX8_init_4 24 rfl rfl
theorem dksX8_init_6 : cX8_init.data.toList.drop 144 = dktX8_init_6 := dk_seg dksX8_init_5 24 rfl rfl
theorem dksX8_init_7 : cX8_init.data.toList.drop 168 = dktX8_init_7 := dk_seg dksX8_init_6 24 rfl rfl
theorem dksX8_init_8 : cX8_init.data.toList.drop 192 = dktX8_init_8 := dk_seg dksX8_init_7 24 rfl rfl
theorem dksX8_init_9 : cX8_init.data.toList.drop 216 = dktX8_init_9 := dk_seg dksX8_init_8 24 rfl rfl
theorem dksX8_init_10 : cX8_init.data.toList.drop 240 = dktX8_init_10 := dk_seg dksX8_init_9 24 rfl rfl
theorem dksX8_init_11 : cX8_init.data.toList.drop 264 = dktX8_init_11 := dk_seg dksX8_init_10 24 rfl rfl
theorem dksX8_init_12 : cX8_init.data.toList.drop 288 = dktX8_init_12 := dk_seg dksX8_init_11 24 rfl rfl
theorem dksX8_init_13 : cX8_init.data.toList.drop 312 = dktX8_init_13 := dk_seg dksX8_init_12 24 rfl rfl
theorem dksX8_init_14 : cX8_init.data.toList.drop 336 = dktX8_init_14 := dk_seg dksX8_init_13 24 rfl rfl
theorem dksX8_init_15 : cX8_init.data.toList.drop 360 = dktX8_init_15 := dk_seg dksX8_init_14 24 rfl rfl
theorem dksX8_init_16 : cX8_init.data.toList.drop 384 = dktX8_init_16 := dk_seg dksX8_init_15 24 rfl rfl
theorem dksX8_init_17 : cX8_init.data.toList.drop 408 = dktX8_init_17 := dk_seg dksX8_init_16 24 rfl rfl
theorem dX8_init_0 : decode cX8_init 0 = .ok (.aload_n 0, 1) := dk_42 (dk_at dksX8_init_0 0 rfl rfl)
theorem dX8_init_1 : decode cX8_init 1 = .ok (.invokespecial 3, 3) := dk_183 0 3 (dk_at dksX8_init_0 1 rfl rfl)
theorem dX8_init_4 : decode cX8_init 4 = .ok (.aload_n 0, 1) := dk_42 (dk_at dksX8_init_0 4 rfl rfl)
theorem dX8_init_5 : decode cX8_init 5 = .ok (.iconst 3, 1) := dk_6 (dk_at dksX8_init_0 5 rfl rfl)
theorem dX8_init_6 : decode cX8_init 6 = .ok (.anewarray 9, 3) := dk_189 0 9 (dk_at dksX8_init_0 6 rfl rfl)
theorem dX8_init_9 : decode cX8_init 9 = .ok (.dup, 1) := dk_89 (dk_at dksX8_init_0 9 rfl rfl)
theorem dX8_init_10 : decode cX8_init 10 = .ok (.iconst 0, 1) := dk_3 (dk_at dksX8_init_0 10 rfl rfl)
theorem dX8_init_11 : decode cX8_init 11 = .ok (.ldc 11, 2) := dk_18 11 (dk_at dksX8_init_0 11 rfl rfl)
theorem dX8_init_13 : decode cX8_init 13 = .ok (.aastore, 1) := dk_83 (dk_at dksX8_init_0 13 rfl rfl)
theorem dX8_init_14 : decode cX8_init 14 = .ok (.dup, 1) := dk_89 (dk_at dksX8_init_0 14 rfl rfl)
theorem dX8_init_15 : decode cX8_init 15 = .ok (.iconst 1, 1) := dk_4 (dk_at dksX8_init_0 15 rfl rfl)
theorem dX8_init_16 : decode cX8_init 16 = .ok (.ldc 13, 2) := dk_18 13 (dk_at dksX8_init_0 16 rfl rfl)
theorem dX8_init_18 : decode cX8_init 18 = .ok (.aastore, 1) := dk_83 (dk_at dksX8_init_0 18 rfl rfl)
theorem dX8_init_19 : decode cX8_init 19 = .ok (.dup, 1) := dk_89 (dk_at dksX8_init_0 19 rfl rfl)
theorem dX8_init_20 : decode cX8_init 20 = .ok (.iconst 2, 1) := dk_5 (dk_at dksX8_init_0 20 rfl rfl)
theorem dX8_init_21 : decode cX8_init 21 = .ok (.ldc 15, 2) := dk_18 15 (dk_at dksX8_init_0 21 rfl rfl)
theorem dX8_init_23 : decode cX8_init 23 = .ok (.aastore, 1) := dk_83 (dk_at dksX8_init_0 23 rfl rfl)
theorem dX8_init_24 : decode cX8_init 24 = .ok (.putfield 17, 3) := dk_181 0 17 (dk_at dksX8_init_1 0 rfl rfl)
theorem dX8_init_27 : decode cX8_init 27 = .ok (.aload_n 0, 1) := dk_42 (dk_at dksX8_init_1 3 rfl rfl)
theorem dX8_init_28 : decode cX8_init 28 = .ok (.iconst 5, 1) := dk_8 (dk_at dksX8_init_1 4 rfl rfl)
theorem dX8_init_29 : decode cX8_init 29 = .ok (.anewarray 9, 3) := dk_189 0 9 (dk_at dksX8_init_1 5 rfl rfl)
theorem dX8_init_32 : decode cX8_init 32 = .ok (.dup, 1) := dk_89 (dk_at dksX8_init_1 8 rfl rfl)
theorem dX8_init_33 : decode cX8_init 33 = .ok (.iconst 0, 1) := dk_3 (dk_at dksX8_init_1 9 rfl rfl)
theorem dX8_init_34 : decode cX8_init 34 = .ok (.ldc 21, 2) := dk_18 21 (dk_at dksX8_init_1 10 rfl rfl)
theorem dX8_init_36 : decode cX8_init 36 = .ok (.aastore, 1) := dk_83 (dk_at dksX8_init_1 12 rfl rfl)
theorem dX8_init_37 : decode cX8_init 37 = .ok (.dup, 1) := dk_89 (dk_at dksX8_init_1 13 rfl rfl)
theorem dX8_init_38 : decode cX8_init 38 = .ok (.iconst 1, 1) := dk_4 (dk_at dksX8_init_1 14 rfl rfl)
theorem dX8_init_39 : decode cX8_init 39 = .ok (.ldc 23, 2) := dk_18 23 (dk_at dksX8_init_1 15 rfl rfl)
theorem dX8_init_41 : decode cX8_init 41 = .ok (.aastore, 1) := dk_83 (dk_at dksX8_init_1 17 rfl rfl)
theorem dX8_init_42 : decode cX8_init 42 = .ok (.dup, 1) := dk_89 (dk_at dksX8_init_1 18 rfl rfl)
theorem dX8_init_43 : decode cX8_init 43 = .ok (.iconst 2, 1) := dk_5 (dk_at dksX8_init_1 19 rfl rfl)
theorem dX8_init_44 : decode cX8_init 44 = .ok (.ldc 25, 2) := dk_18 25 (dk_at dksX8_init_1 20 rfl rfl)
theorem dX8_init_46 : decode cX8_init 46 = .ok (.aastore, 1) := dk_83 (dk_at dksX8_init_1 22 rfl rfl)
theorem dX8_init_47 : decode cX8_init 47 = .ok (.dup, 1) := dk_89 (dk_at dksX8_init_1 23 rfl rfl)
theorem dX8_init_48 : decode cX8_init 48 = .ok (.iconst 3, 1) := dk_6 (dk_at dksX8_init_2 0 rfl rfl)
theorem dX8_init_49 : decode cX8_init 49 = .ok (.ldc 27, 2) := dk_18 27 (dk_at dksX8_init_2 1 rfl rfl)
theorem dX8_init_51 : decode cX8_init 51 = .ok (.aastore, 1) := dk_83 (dk_at dksX8_init_2 3 rfl rfl)
theorem dX8_init_52 : decode cX8_init 52 = .ok (.dup, 1) := dk_89 (dk_at dksX8_init_2 4 rfl rfl)
theorem dX8_init_53 : decode cX8_init 53 = .ok (.iconst 4, 1) := dk_7 (dk_at dksX8_init_2 5 rfl rfl)
theorem dX8_init_54 : decode cX8_init 54 = .ok (.ldc 29, 2) := dk_18 29 (dk_at dksX8_init_2 6 rfl rfl)
theorem dX8_init_56 : decode cX8_init 56 = .ok (.aastore, 1) := dk_83 (dk_at dksX8_init_2 8 rfl rfl)
theorem dX8_init_57 : decode cX8_init 57 = .ok (.putfield 31, 3) := dk_181 0 31 (dk_at dksX8_init_2 9 rfl rfl)
theorem dX8_init_60 : decode cX8_init 60 = .ok (.aload_n 0, 1) := dk_42 (dk_at dksX8_init_2 12 rfl rfl)
theorem dX8_init_61 : decode cX8_init 61 = .ok (.bipush 14, 2) := dk_16 14 (dk_at dksX8_init_2 13 rfl rfl)
theorem dX8_init_63 : decode cX8_init 63 = .ok (.newarray .int, 2) := dk_188_10 (dk_at dksX8_init_2 15 rfl rfl)
theorem dX8_init_65 : decode cX8_init 65 = .ok (.dup, 1) := dk_89 (dk_at dksX8_init_2 17 rfl rfl)
theorem dX8_init_66 : decode cX8_init 66 = .ok (.iconst 0, 1) := dk_3 (dk_at dksX8_init_2 18 rfl rfl)
theorem dX8_init_67 : decode cX8_init 67 = .ok (.iconst 0, 1) := dk_3 (dk_at dksX8_init_2 19 rfl rfl)
theorem dX8_init_68 : decode cX8_init 68 = .ok (.iastore, 1) := dk_79 (dk_at dksX8_init_2 20 rfl rfl)
theorem dX8_init_69 : decode cX8_init 69 = .ok (.dup, 1) := dk_89 (dk_at dksX8_init_2 21 rfl rfl)
theorem dX8_init_70 : decode cX8_init 70 = .ok (.iconst 1, 1) := dk_4 (dk_at dksX8_init_2 22 rfl rfl)
theorem dX8_init_71 : decode cX8_init 71 = .ok (.iconst 0, 1) := dk_3 (dk_at dksX8_init_2 23 rfl rfl)
theorem dX8_init_72 : decode cX8_init 72 = .ok (.iastore, 1) := dk_79 (dk_at dksX8_init_3 0 rfl rfl)
theorem dX8_init_73 : decode cX8_init 73 = .ok (.dup, 1) := dk_89 (dk_at dksX8_init_3 1 rfl rfl)
theorem dX8_init_74 : decode cX8_init 74 = .ok (.iconst 2, 1) := dk_5 (dk_at dksX8_init_3 2 rfl rfl)
theorem dX8_init_75 : decode cX8_init 75 = .ok (.iconst 0, 1) := dk_3 (dk_at dksX8_init_3 3 rfl rfl)
theorem dX8_init_76 : decode cX8_init 76 = .ok (.iastore, 1) := dk_79 (dk_at dksX8_init_3 4 rfl rfl)
theorem dX8_init_77 : decode cX8_init 77 = .ok (.dup, 1) := dk_89 (dk_at dksX8_init_3 5 rfl rfl)
theorem dX8_init_78 : decode cX8_init 78 = .ok (.iconst 3, 1) := dk_6 (dk_at dksX8_init_3 6 rfl rfl)
theorem dX8_init_79 : decode cX8_init 79 = .ok (.bipush 10, 2) := dk_16 10 (dk_at dksX8_init_3 7 rfl rfl)
theorem dX8_init_81 : decode cX8_init 81 = .ok (.iastore, 1) := dk_79 (dk_at dksX8_init_3 9 rfl rfl)
theorem dX8_init_82 : decode cX8_init 82 = .ok (.dup, 1) := dk_89 (dk_at dksX8_init_3 10 rfl rfl)
theorem dX8_init_83 : decode cX8_init 83 = .ok (.iconst 4, 1) := dk_7 (dk_at dksX8_init_3 11 rfl rfl)
theorem dX8_init_84 : decode cX8_init 84 = .ok (.iconst 0, 1) := dk_3 (dk_at dksX8_init_3 12 rfl rfl)
theorem dX8_init_85 : decode cX8_init 85 = .ok (.iastore, 1) := dk_79 (dk_at dksX8_init_3 13 rfl rfl)
theorem dX8_init_86 : decode cX8_init 86 = .ok (.dup, 1) := dk_89 (dk_at dksX8_init_3 14 rfl rfl)
theorem dX8_init_87 : decode cX8_init 87 = .ok (.iconst 5, 1) := dk_8 (dk_at dksX8_init_3 15 rfl rfl)
theorem dX8_init_88 : decode cX8_init 88 = .ok (.iconst 0, 1) := dk_3 (dk_at dksX8_init_3 16 rfl rfl)
theorem dX8_init_89 : decode cX8_init 89 = .ok (.iastore, 1) := dk_79 (dk_at dksX8_init_3 17 rfl rfl)
theorem dX8_init_90 : decode cX8_init 90 = .ok (.dup, 1) := dk_89 (dk_at dksX8_init_3 18 rfl rfl)
theorem dX8_init_91 : decode cX8_init 91 = .ok (.bipush 6, 2) := dk_16 6 (dk_at dksX8_init_3 19 rfl rfl)
theorem dX8_init_93 : decode cX8_init 93 = .ok (.iconst 0, 1) := dk_3 (dk_at dksX8_init_3 21 rfl rfl)
theorem dX8_init_94 : decode cX8_init 94 = .ok (.iastore, 1) := dk_79 (dk_at dksX8_init_3 22 rfl rfl)
theorem dX8_init_95 : decode cX8_init 95 = .ok (.dup, 1) := dk_89 (dk_at dksX8_init_3 23 rfl rfl)
theorem dX8_init_96 : decode cX8_init 96 = .ok (.bipush 7, 2) := dk_16 7 (dk_at dksX8_init_4 0 rfl rfl)
theorem dX8_init_98 : decode cX8_init 98 = .ok (.iconst 0, 1) := dk_3 (dk_at dksX8_init_4 2 rfl rfl)
theorem dX8_init_99 : decode cX8_init 99 = .ok (.iastore, 1) := dk_79 (dk_at dksX8_init_4 3 rfl rfl)
theorem dX8_init_100 : decode cX8_init 100 = .ok (.dup, 1) := dk_89 (dk_at dksX8_init_4 4 rfl rfl)
theorem dX8_init_101 : decode cX8_init 101 = .ok (.bipush 8, 2) := dk_16 8 (dk_at dksX8_init_4 5 rfl rfl)
theorem dX8_init_103 : decode cX8_init 103 = .ok (.iconst 0, 1) := dk_3 (dk_at dksX8_init_4 7 rfl rfl)
theorem dX8_init_104 : decode cX8_init 104 = .ok (.iastore, 1) := dk_79 (dk_at dksX8_init_4 8 rfl rfl)
theorem dX8_init_105 : decode cX8_init 105 = .ok (.dup, 1) := dk_89 (dk_at dksX8_init_4 9 rfl rfl)
theorem dX8_init_106 : decode cX8_init 106 = .ok (.bipush 9, 2) := dk_16 9 (dk_at dksX8_init_4 10 rfl rfl)
theorem dX8_init_108 : decode cX8_init 108 = .ok (.iconst 0, 1) := dk_3 (dk_at dksX8_init_4 12 rfl rfl)
theorem dX8_init_109 : decode cX8_init 109 = .ok (.iastore, 1) := dk_79 (dk_at dksX8_init_4 13 rfl rfl)
theorem dX8_init_110 : decode cX8_init 110 = .ok (.dup, 1) := dk_89 (dk_at dksX8_init_4 14 rfl rfl)
theorem dX8_init_111 : decode cX8_init 111 = .ok (.bipush 10, 2) := dk_16 10 (dk_at dksX8_init_4 15 rfl rfl)
theorem dX8_init_113 : decode cX8_init 113 = .ok (.bipush 10, 2) := dk_16 10 (dk_at dksX8_init_4 17 rfl rfl)
theorem dX8_init_115 : decode cX8_init 115 = .ok (.iastore, 1) := dk_79 (dk_at dksX8_init_4 19 rfl rfl)
theorem dX8_init_116 : decode cX8_init 116 = .ok (.dup, 1) := dk_89 (dk_at dksX8_init_4 20 rfl rfl)
theorem dX8_init_117 : decode cX8_init 117 = .ok (.bipush 11, 2) := dk_16 11 (dk_at dksX8_init_4 21 rfl rfl)
theorem dX8_init_119 : decode cX8_init 119 = .ok (.iconst 0, 1) := dk_3 (dk_at dksX8_init_4 23 rfl rfl)
theorem dX8_init_120 : decode cX8_init 120 = .ok (.iastore, 1) := dk_79 (dk_at dksX8_init_5 0 rfl rfl)
theorem dX8_init_121 : decode cX8_init 121 = .ok (.dup, 1) := dk_89 (dk_at dksX8_init_5 1 rfl rfl)
theorem dX8_init_122 : decode cX8_init 122 = .ok (.bipush 12, 2) := dk_16 12 (dk_at dksX8_init_5 2 rfl rfl)
theorem dX8_init_124 : decode cX8_init 124 = .ok (.iconst 0, 1) := dk_3 (dk_at dksX8_init_5 4 rfl rfl)
theorem dX8_init_125 : decode cX8_init 125 = .ok (.iastore, 1) := dk_79 (dk_at dksX8_init_5 5 rfl rfl)
theorem dX8_init_126 : decode cX8_init 126 = .ok (.dup, 1) := dk_89 (dk_at dksX8_init_5 6 rfl rfl)
theorem dX8_init_127 : decode cX8_init 127 = .ok (.bipush 13, 2) := dk_16 13 (dk_at dksX8_init_5 7 rfl rfl)
theorem dX8_init_129 : decode cX8_init 129 = .ok (.iconst 0, 1) := dk_3 (dk_at dksX8_init_5 9 rfl rfl)
theorem dX8_init_130 : decode cX8_init 130 = .ok (.iastore, 1) := dk_79 (dk_at dksX8_init_5 10 rfl rfl)
theorem dX8_init_131 : decode cX8_init 131 = .ok (.putfield 34, 3) := dk_181 0 34 (dk_at dksX8_init_5 11 rfl rfl)
theorem dX8_init_134 : decode cX8_init 134 = .ok (.aload_n 0, 1) := dk_42 (dk_at dksX8_init_5 14 rfl rfl)
theorem dX8_init_135 : decode cX8_init 135 = .ok (.sipush 162, 3) := dk_17 0 162 (dk_at dksX8_init_5 15 rfl rfl)
theorem dX8_init_138 : decode cX8_init 138 = .ok (.newarray .int, 2) := dk_188_10 (dk_at dksX8_init_5 18 rfl rfl)
theorem dX8_init_140 : decode cX8_init 140 = .ok (.putfield 38, 3) := dk_181 0 38 (dk_at dksX8_init_5 20 rfl rfl)
theorem dX8_init_143 : decode cX8_init 143 = .ok (.aload_n 0, 1) := dk_42 (dk_at dksX8_init_5 23 rfl rfl)
theorem dX8_init_144 : decode cX8_init 144 = .ok (.bipush 10, 2) := dk_16 10 (dk_at dksX8_init_6 0 rfl rfl)
theorem dX8_init_146 : decode cX8_init 146 = .ok (.newarray .int, 2) := dk_188_10 (dk_at dksX8_init_6 2 rfl rfl)
theorem dX8_init_148 : decode cX8_init 148 = .ok (.putfield 41, 3) := dk_181 0 41 (dk_at dksX8_init_6 4 rfl rfl)
theorem dX8_init_151 : decode cX8_init 151 = .ok (.aload_n 0, 1) := dk_42 (dk_at dksX8_init_6 7 rfl rfl)
theorem dX8_init_152 : decode cX8_init 152 = .ok (.bipush 10, 2) := dk_16 10 (dk_at dksX8_init_6 8 rfl rfl)
theorem dX8_init_154 : decode cX8_init 154 = .ok (.newarray .int, 2) := dk_188_10 (dk_at dksX8_init_6 10 rfl rfl)
theorem dX8_init_156 : decode cX8_init 156 = .ok (.putfield 44, 3) := dk_181 0 44 (dk_at dksX8_init_6 12 rfl rfl)
theorem dX8_init_159 : decode cX8_init 159 = .ok (.aload_n 0, 1) := dk_42 (dk_at dksX8_init_6 15 rfl rfl)
theorem dX8_init_160 : decode cX8_init 160 = .ok (.bipush 10, 2) := dk_16 10 (dk_at dksX8_init_6 16 rfl rfl)
theorem dX8_init_162 : decode cX8_init 162 = .ok (.newarray .int, 2) := dk_188_10 (dk_at dksX8_init_6 18 rfl rfl)
theorem dX8_init_164 : decode cX8_init 164 = .ok (.putfield 47, 3) := dk_181 0 47 (dk_at dksX8_init_6 20 rfl rfl)
theorem dX8_init_167 : decode cX8_init 167 = .ok (.aload_n 0, 1) := dk_42 (dk_at dksX8_init_6 23 rfl rfl)
theorem dX8_init_168 : decode cX8_init 168 = .ok (.bipush 10, 2) := dk_16 10 (dk_at dksX8_init_7 0 rfl rfl)
theorem dX8_init_170 : decode cX8_init 170 = .ok (.newarray .int, 2) := dk_188_10 (dk_at dksX8_init_7 2 rfl rfl)
theorem dX8_init_172 : decode cX8_init 172 = .ok (.putfield 49, 3) := dk_181 0 49 (dk_at dksX8_init_7 4 rfl rfl)
theorem dX8_init_175 : decode cX8_init 175 = .ok (.aload_n 0, 1) := dk_42 (dk_at dksX8_init_7 7 rfl rfl)
theorem dX8_init_176 : decode cX8_init 176 = .ok (.bipush 70, 2) := dk_16 70 (dk_at dksX8_init_7 8 rfl rfl)
theorem dX8_init_178 : decode cX8_init 178 = .ok (.newarray .int, 2) := dk_188_10 (dk_at dksX8_init_7 10 rfl rfl)
theorem dX8_init_180 : decode cX8_init 180 = .ok (.putfield 52, 3) := dk_181 0 52 (dk_at dksX8_init_7 12 rfl rfl)
theorem dX8_init_183 : decode cX8_init 183 = .ok (.aload_n 0, 1) := dk_42 (dk_at dksX8_init_7 15 rfl rfl)
theorem dX8_init_184 : decode cX8_init 184 = .ok (.bipush 108, 2) := dk_16 108 (dk_at dksX8_init_7 16 rfl rfl)
theorem dX8_init_186 : decode cX8_init 186 = .ok (.newarray .int, 2) := dk_188_10 (dk_at dksX8_init_7 18 rfl rfl)
theorem dX8_init_188 : decode cX8_init 188 = .ok (.putfield 55, 3) := dk_181 0 55 (dk_at dksX8_init_7 20 rfl rfl)
theorem dX8_init_191 : decode cX8_init 191 = .ok (.aload_n 0, 1) := dk_42 (dk_at dksX8_init_7 23 rfl rfl)
theorem dX8_init_192 : decode cX8_init 192 = .ok (.sipush 1200, 3) := dk_17 4 176 (dk_at dksX8_init_8 0 rfl rfl)
theorem dX8_init_195 : decode cX8_init 195 = .ok (.newarray .int, 2) := dk_188_10 (dk_at dksX8_init_8 3 rfl rfl)
theorem dX8_init_197 : decode cX8_init 197 = .ok (.putfield 57, 3) := dk_181 0 57 (dk_at dksX8_init_8 5 rfl rfl)
theorem dX8_init_200 : decode cX8_init 200 = .ok (.aload_n 0, 1) := dk_42 (dk_at dksX8_init_8 8 rfl rfl)
theorem dX8_init_201 : decode cX8_init 201 = .ok (.iconst 3, 1) := dk_6 (dk_at dksX8_init_8 9 rfl rfl)
theorem dX8_init_202 : decode cX8_init 202 = .ok (.newarray .int, 2) := dk_188_10 (dk_at dksX8_init_8 10 rfl rfl)
theorem dX8_init_204 : decode cX8_init 204 = .ok (.putfield 60, 3) := dk_181 0 60 (dk_at dksX8_init_8 12 rfl rfl)
theorem dX8_init_207 : decode cX8_init 207 = .ok (.aload_n 0, 1) := dk_42 (dk_at dksX8_init_8 15 rfl rfl)
theorem dX8_init_208 : decode cX8_init 208 = .ok (.sipush 600, 3) := dk_17 2 88 (dk_at dksX8_init_8 16 rfl rfl)
theorem dX8_init_211 : decode cX8_init 211 = .ok (.newarray .int, 2) := dk_188_10 (dk_at dksX8_init_8 19 rfl rfl)
theorem dX8_init_213 : decode cX8_init 213 = .ok (.putfield 63, 3) := dk_181 0 63 (dk_at dksX8_init_8 21 rfl rfl)
theorem dX8_init_216 : decode cX8_init 216 = .ok (.aload_n 0, 1) := dk_42 (dk_at dksX8_init_9 0 rfl rfl)
theorem dX8_init_217 : decode cX8_init 217 = .ok (.iconst (-1), 1) := dk_2 (dk_at dksX8_init_9 1 rfl rfl)
theorem dX8_init_218 : decode cX8_init 218 = .ok (.putfield 66, 3) := dk_181 0 66 (dk_at dksX8_init_9 2 rfl rfl)
theorem dX8_init_221 : decode cX8_init 221 = .ok (.aload_n 0, 1) := dk_42 (dk_at dksX8_init_9 5 rfl rfl)
theorem dX8_init_222 : decode cX8_init 222 = .ok (.bipush 81, 2) := dk_16 81 (dk_at dksX8_init_9 6 rfl rfl)
theorem dX8_init_224 : decode cX8_init 224 = .ok (.newarray .int, 2) := dk_188_10 (dk_at dksX8_init_9 8 rfl rfl)
theorem dX8_init_226 : decode cX8_init 226 = .ok (.putfield 70, 3) := dk_181 0 70 (dk_at dksX8_init_9 10 rfl rfl)
theorem dX8_init_229 : decode cX8_init 229 = .ok (.aload_n 0, 1) := dk_42 (dk_at dksX8_init_9 13 rfl rfl)
theorem dX8_init_230 : decode cX8_init 230 = .ok (.bipush 15, 2) := dk_16 15 (dk_at dksX8_init_9 14 rfl rfl)
theorem dX8_init_232 : decode cX8_init 232 = .ok (.newarray .int, 2) := dk_188_10 (dk_at dksX8_init_9 16 rfl rfl)
theorem dX8_init_234 : decode cX8_init 234 = .ok (.putfield 73, 3) := dk_181 0 73 (dk_at dksX8_init_9 18 rfl rfl)
theorem dX8_init_237 : decode cX8_init 237 = .ok (.aload_n 0, 1) := dk_42 (dk_at dksX8_init_9 21 rfl rfl)
theorem dX8_init_238 : decode cX8_init 238 = .ok (.bipush 12, 2) := dk_16 12 (dk_at dksX8_init_9 22 rfl rfl)
theorem dX8_init_240 : decode cX8_init 240 = .ok (.newarray .int, 2) := dk_188_10 (dk_at dksX8_init_10 0 rfl rfl)
theorem dX8_init_242 : decode cX8_init 242 = .ok (.putfield 76, 3) := dk_181 0 76 (dk_at dksX8_init_10 2 rfl rfl)
theorem dX8_init_245 : decode cX8_init 245 = .ok (.aload_n 0, 1) := dk_42 (dk_at dksX8_init_10 5 rfl rfl)
theorem dX8_init_246 : decode cX8_init 246 = .ok (.bipush 18, 2) := dk_16 18 (dk_at dksX8_init_10 6 rfl rfl)
theorem dX8_init_248 : decode cX8_init 248 = .ok (.newarray .int, 2) := dk_188_10 (dk_at dksX8_init_10 8 rfl rfl)
theorem dX8_init_250 : decode cX8_init 250 = .ok (.putfield 79, 3) := dk_181 0 79 (dk_at dksX8_init_10 10 rfl rfl)
theorem dX8_init_253 : decode cX8_init 253 = .ok (.aload_n 0, 1) := dk_42 (dk_at dksX8_init_10 13 rfl rfl)
theorem dX8_init_254 : decode cX8_init 254 = .ok (.sipush 1800, 3) := dk_17 7 8 (dk_at dksX8_init_10 14 rfl rfl)
theorem dX8_init_257 : decode cX8_init 257 = .ok (.newarray .int, 2) := dk_188_10 (dk_at dksX8_init_10 17 rfl rfl)
theorem dX8_init_259 : decode cX8_init 259 = .ok (.putfield 82, 3) := dk_181 0 82 (dk_at dksX8_init_10 19 rfl rfl)
theorem dX8_init_262 : decode cX8_init 262 = .ok (.aload_n 0, 1) := dk_42 (dk_at dksX8_init_10 22 rfl rfl)
theorem dX8_init_263 : decode cX8_init 263 = .ok (.iconst 5, 1) := dk_8 (dk_at dksX8_init_10 23 rfl rfl)
theorem dX8_init_264 : decode cX8_init 264 = .ok (.newarray .int, 2) := dk_188_10 (dk_at dksX8_init_11 0 rfl rfl)
theorem dX8_init_266 : decode cX8_init 266 = .ok (.putfield 85, 3) := dk_181 0 85 (dk_at dksX8_init_11 2 rfl rfl)
theorem dX8_init_269 : decode cX8_init 269 = .ok (.aload_n 0, 1) := dk_42 (dk_at dksX8_init_11 5 rfl rfl)
theorem dX8_init_270 : decode cX8_init 270 = .ok (.bipush 64, 2) := dk_16 64 (dk_at dksX8_init_11 6 rfl rfl)
theorem dX8_init_272 : decode cX8_init 272 = .ok (.newarray .int, 2) := dk_188_10 (dk_at dksX8_init_11 8 rfl rfl)
theorem dX8_init_274 : decode cX8_init 274 = .ok (.putfield 88, 3) := dk_181 0 88 (dk_at dksX8_init_11 10 rfl rfl)
theorem dX8_init_277 : decode cX8_init 277 = .ok (.aload_n 0, 1) := dk_42 (dk_at dksX8_init_11 13 rfl rfl)
theorem dX8_init_278 : decode cX8_init 278 = .ok (.bipush 35, 2) := dk_16 35 (dk_at dksX8_init_11 14 rfl rfl)
theorem dX8_init_280 : decode cX8_init 280 = .ok (.newarray .int, 2) := dk_188_10 (dk_at dksX8_init_11 16 rfl rfl)
theorem dX8_init_282 : decode cX8_init 282 = .ok (.putfield 91, 3) := dk_181 0 91 (dk_at dksX8_init_11 18 rfl rfl)
theorem dX8_init_285 : decode cX8_init 285 = .ok (.aload_n 0, 1) := dk_42 (dk_at dksX8_init_11 21 rfl rfl)
theorem dX8_init_286 : decode cX8_init 286 = .ok (.bipush 35, 2) := dk_16 35 (dk_at dksX8_init_11 22 rfl rfl)
theorem dX8_init_288 : decode cX8_init 288 = .ok (.newarray .int, 2) := dk_188_10 (dk_at dksX8_init_12 0 rfl rfl)
theorem dX8_init_290 : decode cX8_init 290 = .ok (.putfield 94, 3) := dk_181 0 94 (dk_at dksX8_init_12 2 rfl rfl)
theorem dX8_init_293 : decode cX8_init 293 = .ok (.aload_n 0, 1) := dk_42 (dk_at dksX8_init_12 5 rfl rfl)
theorem dX8_init_294 : decode cX8_init 294 = .ok (.bipush 25, 2) := dk_16 25 (dk_at dksX8_init_12 6 rfl rfl)
theorem dX8_init_296 : decode cX8_init 296 = .ok (.newarray .int, 2) := dk_188_10 (dk_at dksX8_init_12 8 rfl rfl)
theorem dX8_init_298 : decode cX8_init 298 = .ok (.putfield 97, 3) := dk_181 0 97 (dk_at dksX8_init_12 10 rfl rfl)
theorem dX8_init_301 : decode cX8_init 301 = .ok (.aload_n 0, 1) := dk_42 (dk_at dksX8_init_12 13 rfl rfl)
theorem dX8_init_302 : decode cX8_init 302 = .ok (.iconst (-1), 1) := dk_2 (dk_at dksX8_init_12 14 rfl rfl)
theorem dX8_init_303 : decode cX8_init 303 = .ok (.putfield 100, 3) := dk_181 0 100 (dk_at dksX8_init_12 15 rfl rfl)
theorem dX8_init_306 : decode cX8_init 306 = .ok (.aload_n 0, 1) := dk_42 (dk_at dksX8_init_12 18 rfl rfl)
theorem dX8_init_307 : decode cX8_init 307 = .ok (.iconst (-1), 1) := dk_2 (dk_at dksX8_init_12 19 rfl rfl)
theorem dX8_init_308 : decode cX8_init 308 = .ok (.putfield 103, 3) := dk_181 0 103 (dk_at dksX8_init_12 20 rfl rfl)
theorem dX8_init_311 : decode cX8_init 311 = .ok (.aload_n 0, 1) := dk_42 (dk_at dksX8_init_12 23 rfl rfl)
theorem dX8_init_312 : decode cX8_init 312 = .ok (.bipush 30, 2) := dk_16 30 (dk_at dksX8_init_13 0 rfl rfl)
theorem dX8_init_314 : decode cX8_init 314 = .ok (.newarray .int, 2) := dk_188_10 (dk_at dksX8_init_13 2 rfl rfl)
theorem dX8_init_316 : decode cX8_init 316 = .ok (.putfield 106, 3) := dk_181 0 106 (dk_at dksX8_init_13 4 rfl rfl)
theorem dX8_init_319 : decode cX8_init 319 = .ok (.aload_n 0, 1) := dk_42 (dk_at dksX8_init_13 7 rfl rfl)
theorem dX8_init_320 : decode cX8_init 320 = .ok (.bipush 30, 2) := dk_16 30 (dk_at dksX8_init_13 8 rfl rfl)
theorem dX8_init_322 : decode cX8_init 322 = .ok (.newarray .int, 2) := dk_188_10 (dk_at dksX8_init_13 10 rfl rfl)
theorem dX8_init_324 : decode cX8_init 324 = .ok (.putfield 108, 3) := dk_181 0 108 (dk_at dksX8_init_13 12 rfl rfl)
theorem dX8_init_327 : decode cX8_init 327 = .ok (.aload_n 0, 1) := dk_42 (dk_at dksX8_init_13 15 rfl rfl)
theorem dX8_init_328 : decode cX8_init 328 = .ok (.bipush 30, 2) := dk_16 30 (dk_at dksX8_init_13 16 rfl rfl)
theorem dX8_init_330 : decode cX8_init 330 = .ok (.newarray .int, 2) := dk_188_10 (dk_at dksX8_init_13 18 rfl rfl)
theorem dX8_init_332 : decode cX8_init 332 = .ok (.putfield 111, 3) := dk_181 0 111 (dk_at dksX8_init_13 20 rfl rfl)
theorem dX8_init_335 : decode cX8_init 335 = .ok (.aload_n 0, 1) := dk_42 (dk_at dksX8_init_13 23 rfl rfl)
theorem dX8_init_336 : decode cX8_init 336 = .ok (.bipush 30, 2) := dk_16 30 (dk_at dksX8_init_14 0 rfl rfl)
theorem dX8_init_338 : decode cX8_init 338 = .ok (.newarray .int, 2) := dk_188_10 (dk_at dksX8_init_14 2 rfl rfl)
theorem dX8_init_340 : decode cX8_init 340 = .ok (.putfield 114, 3) := dk_181 0 114 (dk_at dksX8_init_14 4 rfl rfl)
theorem dX8_init_343 : decode cX8_init 343 = .ok (.aload_n 0, 1) := dk_42 (dk_at dksX8_init_14 7 rfl rfl)
theorem dX8_init_344 : decode cX8_init 344 = .ok (.bipush 6, 2) := dk_16 6 (dk_at dksX8_init_14 8 rfl rfl)
theorem dX8_init_346 : decode cX8_init 346 = .ok (.newarray .int, 2) := dk_188_10 (dk_at dksX8_init_14 10 rfl rfl)
theorem dX8_init_348 : decode cX8_init 348 = .ok (.putfield 117, 3) := dk_181 0 117 (dk_at dksX8_init_14 12 rfl rfl)
theorem dX8_init_351 : decode cX8_init 351 = .ok (.aload_n 0, 1) := dk_42 (dk_at dksX8_init_14 15 rfl rfl)
theorem dX8_init_352 : decode cX8_init 352 = .ok (.bipush 6, 2) := dk_16 6 (dk_at dksX8_init_14 16 rfl rfl)
theorem dX8_init_354 : decode cX8_init 354 = .ok (.newarray .int, 2) := dk_188_10 (dk_at dksX8_init_14 18 rfl rfl)
theorem dX8_init_356 : decode cX8_init 356 = .ok (.putfield 120, 3) := dk_181 0 120 (dk_at dksX8_init_14 20 rfl rfl)
theorem dX8_init_359 : decode cX8_init 359 = .ok (.aload_n 0, 1) := dk_42 (dk_at dksX8_init_14 23 rfl rfl)
theorem dX8_init_360 : decode cX8_init 360 = .ok (.bipush 8, 2) := dk_16 8 (dk_at dksX8_init_15 0 rfl rfl)
theorem dX8_init_362 : decode cX8_init 362 = .ok (.newarray .int, 2) := dk_188_10 (dk_at dksX8_init_15 2 rfl rfl)
theorem dX8_init_364 : decode cX8_init 364 = .ok (.putfield 123, 3) := dk_181 0 123 (dk_at dksX8_init_15 4 rfl rfl)
theorem dX8_init_367 : decode cX8_init 367 = .ok (.aload_n 0, 1) := dk_42 (dk_at dksX8_init_15 7 rfl rfl)
theorem dX8_init_368 : decode cX8_init 368 = .ok (.bipush 8, 2) := dk_16 8 (dk_at dksX8_init_15 8 rfl rfl)
theorem dX8_init_370 : decode cX8_init 370 = .ok (.newarray .int, 2) := dk_188_10 (dk_at dksX8_init_15 10 rfl rfl)
theorem dX8_init_372 : decode cX8_init 372 = .ok (.putfield 126, 3) := dk_181 0 126 (dk_at dksX8_init_15 12 rfl rfl)
theorem dX8_init_375 : decode cX8_init 375 = .ok (.aload_n 0, 1) := dk_42 (dk_at dksX8_init_15 15 rfl rfl)
theorem dX8_init_376 : decode cX8_init 376 = .ok (.bipush 8, 2) := dk_16 8 (dk_at dksX8_init_15 16 rfl rfl)
theorem dX8_init_378 : decode cX8_init 378 = .ok (.newarray .int, 2) := dk_188_10 (dk_at dksX8_init_15 18 rfl rfl)
theorem dX8_init_380 : decode cX8_init 380 = .ok (.putfield 129, 3) := dk_181 0 129 (dk_at dksX8_init_15 20 rfl rfl)
theorem dX8_init_383 : decode cX8_init 383 = .ok (.aload_n 0, 1) := dk_42 (dk_at dksX8_init_15 23 rfl rfl)
theorem dX8_init_384 : decode cX8_init 384 = .ok (.bipush 45, 2) := dk_16 45 (dk_at dksX8_init_16 0 rfl rfl)
theorem dX8_init_386 : decode cX8_init 386 = .ok (.newarray .int, 2) := dk_188_10 (dk_at dksX8_init_16 2 rfl rfl)
theorem dX8_init_388 : decode cX8_init 388 = .ok (.putfield 132, 3) := dk_181 0 132 (dk_at dksX8_init_16 4 rfl rfl)
theorem dX8_init_391 : decode cX8_init 391 = .ok (.aload_n 0, 1) := dk_42 (dk_at dksX8_init_16 7 rfl rfl)
theorem dX8_init_392 : decode cX8_init 392 = .ok (.sipush 1800, 3) := dk_17 7 8 (dk_at dksX8_init_16 8 rfl rfl)
theorem dX8_init_395 : decode cX8_init 395 = .ok (.newarray .int, 2) := dk_188_10 (dk_at dksX8_init_16 11 rfl rfl)
theorem dX8_init_397 : decode cX8_init 397 = .ok (.putfield 135, 3) := dk_181 0 135 (dk_at dksX8_init_16 13 rfl rfl)
theorem dX8_init_400 : decode cX8_init 400 = .ok (.aload_n 0, 1) := dk_42 (dk_at dksX8_init_16 16 rfl rfl)
theorem dX8_init_401 : decode cX8_init 401 = .ok (.bipush 8, 2) := dk_16 8 (dk_at dksX8_init_16 17 rfl rfl)
theorem dX8_init_403 : decode cX8_init 403 = .ok (.newarray .int, 2) := dk_188_10 (dk_at dksX8_init_16 19 rfl rfl)
theorem dX8_init_405 : decode cX8_init 405 = .ok (.putfield 138, 3) := dk_181 0 138 (dk_at dksX8_init_16 21 rfl rfl)
theorem dX8_init_408 : decode cX8_init 408 = .ok (.aload_n 0, 1) := dk_42 (dk_at dksX8_init_17 0 rfl rfl)
theorem dX8_init_409 : decode cX8_init 409 = .ok (.bipush 8, 2) := dk_16 8 (dk_at dksX8_init_17 1 rfl rfl)
theorem dX8_init_411 : decode cX8_init 411 = .ok (.newarray .int, 2) := dk_188_10 (dk_at dksX8_init_17 3 rfl rfl)
theorem dX8_init_413 : decode cX8_init 413 = .ok (.putfield 141, 3) := dk_181 0 141 (dk_at dksX8_init_17 5 rfl rfl)
theorem dX8_init_416 : decode cX8_init 416 = .ok (.aload_n 0, 1) := dk_42 (dk_at dksX8_init_17 8 rfl rfl)
theorem dX8_init_417 : decode cX8_init 417 = .ok (.bipush 8, 2) := dk_16 8 (dk_at dksX8_init_17 9 rfl rfl)
theorem dX8_init_419 : decode cX8_init 419 = .ok (.newarray .int, 2) := dk_188_10 (dk_at dksX8_init_17 11 rfl rfl)
theorem dX8_init_421 : decode cX8_init 421 = .ok (.putfield 144, 3) := dk_181 0 144 (dk_at dksX8_init_17 13 rfl rfl)
theorem dX8_init_424 : decode cX8_init 424 = .ok (.aload_n 0, 1) := dk_42 (dk_at dksX8_init_17 16 rfl rfl)
theorem dX8_init_425 : decode cX8_init 425 = .ok (.iconst 3, 1) := dk_6 (dk_at dksX8_init_17 17 rfl rfl)
theorem dX8_init_426 : decode cX8_init 426 = .ok (.newarray .int, 2) := dk_188_10 (dk_at dksX8_init_17 18 rfl rfl)
theorem dX8_init_428 : decode cX8_init 428 = .ok (.putfield 147, 3) := dk_181 0 147 (dk_at dksX8_init_17 20 rfl rfl)
theorem dX8_init_431 : decode cX8_init 431 = .ok (.return_, 1) := dk_177 (dk_at dksX8_init_17 23 rfl rfl)
abbrev cX8_thrown : ByteArray := prog_20_method_2_code
def yX8_thrown : MethodName := ⟨RX8, "thrown", "()I"⟩
theorem dX8_thrown_0 : decode cX8_thrown 0 = .ok (.aload_n 0, 1) := by decide +kernel
theorem dX8_thrown_1 : decode cX8_thrown 1 = .ok (.getfield 150, 3) := by decide +kernel
theorem dX8_thrown_4 : decode cX8_thrown 4 = .ok (.ireturn, 1) := by decide +kernel
abbrev cX8_feed : ByteArray := prog_20_method_8_code
def yX8_feed : MethodName := ⟨RX8, "feed", "(IIIII)I"⟩
def dkwX8_feed_5 : List UInt8 := [167, 255, 162, 42, 180, 0, 157, 172]
abbrev dktX8_feed_5 : List UInt8 := dkwX8_feed_5 ++ []
def dkwX8_feed_4 : List UInt8 := [112, 104, 100, 122, 17, 0, 255, 126, 79, 42, 89, 180, 0, 157, 4, 96, 181, 0, 157, 132, 6, 1]
abbrev dktX8_feed_4 : List UInt8 := dkwX8_feed_4 ++ dktX8_feed_5
def dkwX8_feed_3 : List UInt8 := [167, 0, 5, 21, 5, 54, 7, 42, 180, 0, 63, 42, 180, 0, 157, 21, 7, 16, 24, 16, 8, 21, 6, 7]
abbrev dktX8_feed_3 : List UInt8 := dkwX8_feed_3 ++ dktX8_feed_4
def dkwX8_feed_2 : List UInt8 := [28, 167, 0, 28, 21, 6, 16, 12, 162, 0, 7, 29, 167, 0, 17, 21, 6, 16, 16, 162, 0, 8, 21, 4]
abbrev dktX8_feed_2 : List UInt8 := dkwX8_feed_2 ++ dktX8_feed_3
def dkwX8_feed_1 : List UInt8 := [21, 6, 16, 20, 162, 0, 93, 21, 6, 7, 162, 0, 7, 27, 167, 0, 39, 21, 6, 16, 8, 162, 0, 7]
abbrev dktX8_feed_1 : List UInt8 := dkwX8_feed_1 ++ dktX8_feed_2
def dkwX8_feed_0 : List UInt8 := [42, 3, 181, 0, 150, 42, 180, 0, 157, 16, 20, 96, 17, 2, 88, 164, 0, 5, 2, 172, 3, 54, 6]
abbrev dktX8_feed_0 : List UInt8 := dkwX8_feed_0 ++ dktX8_feed_1
theorem dksX8_feed_0 : cX8_feed.data.toList.drop 0 = dktX8_feed_0 := by decide +kernel
theorem dksX8_feed_1 : cX8_feed.data.toList.drop 23 = dktX8_feed_1 := dk_seg dksX8_feed_0 23 rfl rfl
theorem dksX8_feed_2 : cX8_feed.data.toList.drop 47 = dktX8_feed_2 := dk_seg dksX8_feed_1 24 rfl rfl
theorem dksX8_feed_3 : cX8_feed.data.toList.drop 71 = dktX8_feed_3 := dk_seg dksX8_feed_2 24 rfl rfl
theorem dksX8_feed_4 : cX8_feed.data.toList.drop 95 = dktX8_feed_4 := dk_seg dksX8_feed_3 24 rfl rfl
theorem dksX8_feed_5 : cX8_feed.data.toList.drop 117 = dktX8_feed_5 := dk_seg dksX8_feed_4 22 rfl rfl
theorem dX8_feed_0 : decode cX8_feed 0 = .ok (.aload_n 0, 1) := dk_42 (dk_at dksX8_feed_0 0 rfl rfl)
theorem dX8_feed_1 : decode cX8_feed 1 = .ok (.iconst 0, 1) := dk_3 (dk_at dksX8_feed_0 1 rfl rfl)
theorem dX8_feed_2 : decode cX8_feed 2 = .ok (.putfield 150, 3) := dk_181 0 150 (dk_at dksX8_feed_0 2 rfl rfl)
theorem dX8_feed_5 : decode cX8_feed 5 = .ok (.aload_n 0, 1) := dk_42 (dk_at dksX8_feed_0 5 rfl rfl)
theorem dX8_feed_6 : decode cX8_feed 6 = .ok (.getfield 157, 3) := dk_180 0 157 (dk_at dksX8_feed_0 6 rfl rfl)
theorem dX8_feed_9 : decode cX8_feed 9 = .ok (.bipush 20, 2) := dk_16 20 (dk_at dksX8_feed_0 9 rfl rfl)
theorem dX8_feed_11 : decode cX8_feed 11 = .ok (.iadd, 1) := dk_96 (dk_at dksX8_feed_0 11 rfl rfl)
theorem dX8_feed_12 : decode cX8_feed 12 = .ok (.sipush 600, 3) := dk_17 2 88 (dk_at dksX8_feed_0 12 rfl rfl)
theorem dX8_feed_15 : decode cX8_feed 15 = .ok (.if_icmp .le 5, 3) := dk_164 0 5 (dk_at dksX8_feed_0 15 rfl rfl)
theorem dX8_feed_18 : decode cX8_feed 18 = .ok (.iconst (-1), 1) := dk_2 (dk_at dksX8_feed_0 18 rfl rfl)
theorem dX8_feed_19 : decode cX8_feed 19 = .ok (.ireturn, 1) := dk_172 (dk_at dksX8_feed_0 19 rfl rfl)
theorem dX8_feed_20 : decode cX8_feed 20 = .ok (.iconst 0, 1) := dk_3 (dk_at dksX8_feed_0 20 rfl rfl)
theorem dX8_feed_21 : decode cX8_feed 21 = .ok (.istore 6, 2) := dk_54 6 (dk_at dksX8_feed_0 21 rfl rfl)
theorem dX8_feed_23 : decode cX8_feed 23 = .ok (.iload 6, 2) := dk_21 6 (dk_at dksX8_feed_1 0 rfl rfl)
theorem dX8_feed_25 : decode cX8_feed 25 = .ok (.bipush 20, 2) := dk_16 20 (dk_at dksX8_feed_1 2 rfl rfl)
theorem dX8_feed_27 : decode cX8_feed 27 = .ok (.if_icmp .ge 93, 3) := dk_162 0 93 (dk_at dksX8_feed_1 4 rfl rfl)
theorem dX8_feed_30 : decode cX8_feed 30 = .ok (.iload 6, 2) := dk_21 6 (dk_at dksX8_feed_1 7 rfl rfl)
theorem dX8_feed_32 : decode cX8_feed 32 = .ok (.iconst 4, 1) := dk_7 (dk_at dksX8_feed_1 9 rfl rfl)
theorem dX8_feed_33 : decode cX8_feed 33 = .ok (.if_icmp .ge 7, 3) := dk_162 0 7 (dk_at dksX8_feed_1 10 rfl rfl)
theorem dX8_feed_36 : decode cX8_feed 36 = .ok (.iload_n 1, 1) := dk_27 (dk_at dksX8_feed_1 13 rfl rfl)
theorem dX8_feed_37 : decode cX8_feed 37 = .ok (.goto 39, 3) := dk_167 0 39 (dk_at dksX8_feed_1 14 rfl rfl)
theorem dX8_feed_40 : decode cX8_feed 40 = .ok (.iload 6, 2) := dk_21 6 (dk_at dksX8_feed_1 17 rfl rfl)
theorem dX8_feed_42 : decode cX8_feed 42 = .ok (.bipush 8, 2) := dk_16 8 (dk_at dksX8_feed_1 19 rfl rfl)
theorem dX8_feed_44 : decode cX8_feed 44 = .ok (.if_icmp .ge 7, 3) := dk_162 0 7 (dk_at dksX8_feed_1 21 rfl rfl)
theorem dX8_feed_47 : decode cX8_feed 47 = .ok (.iload_n 2, 1) := dk_28 (dk_at dksX8_feed_2 0 rfl rfl)
theorem dX8_feed_48 : decode cX8_feed 48 = .ok (.goto 28, 3) := dk_167 0 28 (dk_at dksX8_feed_2 1 rfl rfl)
theorem dX8_feed_51 : decode cX8_feed 51 = .ok (.iload 6, 2) := dk_21 6 (dk_at dksX8_feed_2 4 rfl rfl)
theorem dX8_feed_53 : decode cX8_feed 53 = .ok (.bipush 12, 2) := dk_16 12 (dk_at dksX8_feed_2 6 rfl rfl)
theorem dX8_feed_55 : decode cX8_feed 55 = .ok (.if_icmp .ge 7, 3) := dk_162 0 7 (dk_at dksX8_feed_2 8 rfl rfl)
theorem dX8_feed_58 : decode cX8_feed 58 = .ok (.iload_n 3, 1) := dk_29 (dk_at dksX8_feed_2 11 rfl rfl)
theorem dX8_feed_59 : decode cX8_feed 59 = .ok (.goto 17, 3) := dk_167 0 17 (dk_at dksX8_feed_2 12 rfl rfl)
theorem dX8_feed_62 : decode cX8_feed 62 = .ok (.iload 6, 2) := dk_21 6 (dk_at dksX8_feed_2 15 rfl rfl)
theorem dX8_feed_64 : decode cX8_feed 64 = .ok (.bipush 16, 2) := dk_16 16 (dk_at dksX8_feed_2 17 rfl rfl)
theorem dX8_feed_66 : decode cX8_feed 66 = .ok (.if_icmp .ge 8, 3) := dk_162 0 8 (dk_at dksX8_feed_2 19 rfl rfl)
theorem dX8_feed_69 : decode cX8_feed 69 = .ok (.iload 4, 2) := dk_21 4 (dk_at dksX8_feed_2 22 rfl rfl)
theorem dX8_feed_71 : decode cX8_feed 71 = .ok (.goto 5, 3) := dk_167 0 5 (dk_at dksX8_feed_3 0 rfl rfl)
theorem dX8_feed_74 : decode cX8_feed 74 = .ok (.iload 5, 2) := dk_21 5 (dk_at dksX8_feed_3 3 rfl rfl)
theorem dX8_feed_76 : decode cX8_feed 76 = .ok (.istore 7, 2) := dk_54 7 (dk_at dksX8_feed_3 5 rfl rfl)
theorem dX8_feed_78 : decode cX8_feed 78 = .ok (.aload_n 0, 1) := dk_42 (dk_at dksX8_feed_3 7 rfl rfl)
theorem dX8_feed_79 : decode cX8_feed 79 = .ok (.getfield 63, 3) := dk_180 0 63 (dk_at dksX8_feed_3 8 rfl rfl)
theorem dX8_feed_82 : decode cX8_feed 82 = .ok (.aload_n 0, 1) := dk_42 (dk_at dksX8_feed_3 11 rfl rfl)
theorem dX8_feed_83 : decode cX8_feed 83 = .ok (.getfield 157, 3) := dk_180 0 157 (dk_at dksX8_feed_3 12 rfl rfl)
theorem dX8_feed_86 : decode cX8_feed 86 = .ok (.iload 7, 2) := dk_21 7 (dk_at dksX8_feed_3 15 rfl rfl)
theorem dX8_feed_88 : decode cX8_feed 88 = .ok (.bipush 24, 2) := dk_16 24 (dk_at dksX8_feed_3 17 rfl rfl)
theorem dX8_feed_90 : decode cX8_feed 90 = .ok (.bipush 8, 2) := dk_16 8 (dk_at dksX8_feed_3 19 rfl rfl)
theorem dX8_feed_92 : decode cX8_feed 92 = .ok (.iload 6, 2) := dk_21 6 (dk_at dksX8_feed_3 21 rfl rfl)
theorem dX8_feed_94 : decode cX8_feed 94 = .ok (.iconst 4, 1) := dk_7 (dk_at dksX8_feed_3 23 rfl rfl)
theorem dX8_feed_95 : decode cX8_feed 95 = .ok (.irem, 1) := dk_112 (dk_at dksX8_feed_4 0 rfl rfl)
theorem dX8_feed_96 : decode cX8_feed 96 = .ok (.imul, 1) := dk_104 (dk_at dksX8_feed_4 1 rfl rfl)
theorem dX8_feed_97 : decode cX8_feed 97 = .ok (.isub, 1) := dk_100 (dk_at dksX8_feed_4 2 rfl rfl)
theorem dX8_feed_98 : decode cX8_feed 98 = .ok (.ishr, 1) := dk_122 (dk_at dksX8_feed_4 3 rfl rfl)
theorem dX8_feed_99 : decode cX8_feed 99 = .ok (.sipush 255, 3) := dk_17 0 255 (dk_at dksX8_feed_4 4 rfl rfl)
theorem dX8_feed_102 : decode cX8_feed 102 = .ok (.iand, 1) := dk_126 (dk_at dksX8_feed_4 7 rfl rfl)
theorem dX8_feed_103 : decode cX8_feed 103 = .ok (.iastore, 1) := dk_79 (dk_at dksX8_feed_4 8 rfl rfl)
theorem dX8_feed_104 : decode cX8_feed 104 = .ok (.aload_n 0, 1) := dk_42 (dk_at dksX8_feed_4 9 rfl rfl)
theorem dX8_feed_105 : decode cX8_feed 105 = .ok (.dup, 1) := dk_89 (dk_at dksX8_feed_4 10 rfl rfl)
theorem dX8_feed_106 : decode cX8_feed 106 = .ok (.getfield 157, 3) := dk_180 0 157 (dk_at dksX8_feed_4 11 rfl rfl)
theorem dX8_feed_109 : decode cX8_feed 109 = .ok (.iconst 1, 1) := dk_4 (dk_at dksX8_feed_4 14 rfl rfl)
theorem dX8_feed_110 : decode cX8_feed 110 = .ok (.iadd, 1) := dk_96 (dk_at dksX8_feed_4 15 rfl rfl)
theorem dX8_feed_111 : decode cX8_feed 111 = .ok (.putfield 157, 3) := dk_181 0 157 (dk_at dksX8_feed_4 16 rfl rfl)
theorem dX8_feed_114 : decode cX8_feed 114 = .ok (.iinc 6 1, 3) := dk_132 6 1 (dk_at dksX8_feed_4 19 rfl rfl)
theorem dX8_feed_117 : decode cX8_feed 117 = .ok (.goto (-94), 3) := dk_167 255 162 (dk_at dksX8_feed_5 0 rfl rfl)
theorem dX8_feed_120 : decode cX8_feed 120 = .ok (.aload_n 0, 1) := dk_42 (dk_at dksX8_feed_5 3 rfl rfl)
theorem dX8_feed_121 : decode cX8_feed 121 = .ok (.getfield 157, 3) := dk_180 0 157 (dk_at dksX8_feed_5 4 rfl rfl)
theorem dX8_feed_124 : decode cX8_feed 124 = .ok (.ireturn, 1) := dk_172 (dk_at dksX8_feed_5 7 rfl rfl)
abbrev cX8_land : ByteArray := prog_20_method_36_code
def yX8_land : MethodName := ⟨RX8, "land", "(I)I"⟩
def dkwX8_land_7 : List UInt8 := [180, 0, 199, 172, 42, 182, 1, 48, 3, 172]
abbrev dktX8_land_7 : List UInt8 := dkwX8_land_7 ++ []
def dkwX8_land_6 : List UInt8 := [153, 0, 26, 42, 42, 180, 0, 202, 181, 0, 66, 42, 180, 0, 60, 3, 92, 46, 4, 96, 79, 42]
abbrev dktX8_land_6 : List UInt8 := dkwX8_land_6 ++ dktX8_land_7
def dkwX8_land_5 : List UInt8 := [154, 0, 19, 42, 180, 0, 173, 153, 0, 12, 42, 28, 182, 1, 45, 61, 167, 255, 236, 42, 180, 0, 199]
abbrev dktX8_land_5 : List UInt8 := dkwX8_land_5 ++ dktX8_land_6
def dkwX8_land_4 : List UInt8 := [16, 81, 28, 96, 3, 79, 132, 2, 1, 167, 255, 237, 42, 182, 0, 224, 3, 61, 42, 180, 0, 199]
abbrev dktX8_land_4 : List UInt8 := dkwX8_land_4 ++ dktX8_land_5
def dkwX8_land_3 : List UInt8 := [167, 0, 4, 3, 79, 132, 2, 1, 167, 255, 227, 3, 61, 28, 16, 81, 162, 0, 19, 42, 180, 0, 38]
abbrev dktX8_land_3 : List UInt8 := dkwX8_land_3 ++ dktX8_land_4
def dkwX8_land_2 : List UInt8 := [3, 61, 28, 16, 7, 162, 0, 29, 42, 180, 0, 34, 16, 7, 28, 96, 28, 6, 160, 0, 8, 16, 10]
abbrev dktX8_land_2 : List UInt8 := dkwX8_land_2 ++ dktX8_land_3
def dkwX8_land_1 : List UInt8 := [3, 181, 0, 157, 42, 27, 181, 0, 160, 42, 3, 181, 0, 163, 42, 3, 181, 0, 199, 42, 2, 181, 0, 66]
abbrev dktX8_land_1 : List UInt8 := dkwX8_land_1 ++ dktX8_land_2
def dkwX8_land_0 : List UInt8 := [42, 3, 181, 0, 150, 27, 155, 0, 11, 27, 42, 180, 0, 157, 164, 0, 9, 42, 4, 182, 1, 42, 172, 42]
abbrev dktX8_land_0 : List UInt8 := dkwX8_land_0 ++ dktX8_land_1
theorem dksX8_land_0 : cX8_land.data.toList.drop 0 = dktX8_land_0 := by decide +kernel
theorem dksX8_land_1 : cX8_land.data.toList.drop 24 = dktX8_land_1 := dk_seg dksX8_land_0 24 rfl rfl
theorem dksX8_land_2 : cX8_land.data.toList.drop 48 = dktX8_land_2 := dk_seg dksX8_land_1 24 rfl rfl
theorem dksX8_land_3 : cX8_land.data.toList.drop 71 = dktX8_land_3 := dk_seg dksX8_land_2 23 rfl rfl
theorem dksX8_land_4 : cX8_land.data.toList.drop 94 = dktX8_land_4 := dk_seg dksX8_land_3 23 rfl rfl
theorem dksX8_land_5 : cX8_land.data.toList.drop 116 = dktX8_land_5 := dk_seg dksX8_land_4 22 rfl rfl
theorem dksX8_land_6 : cX8_land.data.toList.drop 139 = dktX8_land_6 := dk_seg dksX8_land_5 23 rfl rfl
theorem dksX8_land_7 : cX8_land.data.toList.drop 161 = dktX8_land_7 := dk_seg dksX8_land_6 22 rfl rfl
theorem dX8_land_0 : decode cX8_land 0 = .ok (.aload_n 0, 1) := dk_42 (dk_at dksX8_land_0 0 rfl rfl)
theorem dX8_land_1 : decode cX8_land 1 = .ok (.iconst 0, 1) := dk_3 (dk_at dksX8_land_0 1 rfl rfl)
theorem dX8_land_2 : decode cX8_land 2 = .ok (.putfield 150, 3) := dk_181 0 150 (dk_at dksX8_land_0 2 rfl rfl)
theorem dX8_land_5 : decode cX8_land 5 = .ok (.iload_n 1, 1) := dk_27 (dk_at dksX8_land_0 5 rfl rfl)
theorem dX8_land_6 : decode cX8_land 6 = .ok (.ifCond .lt 11, 3) := dk_155 0 11 (dk_at dksX8_land_0 6 rfl rfl)
theorem dX8_land_9 : decode cX8_land 9 = .ok (.iload_n 1, 1) := dk_27 (dk_at dksX8_land_0 9 rfl rfl)
theorem dX8_land_10 : decode cX8_land 10 = .ok (.aload_n 0, 1) := dk_42 (dk_at dksX8_land_0 10 rfl rfl)
theorem dX8_land_11 : decode cX8_land 11 = .ok (.getfield 157, 3) := dk_180 0 157 (dk_at dksX8_land_0 11 rfl rfl)
theorem dX8_land_14 : decode cX8_land 14 = .ok (.if_icmp .le 9, 3) := dk_164 0 9 (dk_at dksX8_land_0 14 rfl rfl)
theorem dX8_land_17 : decode cX8_land 17 = .ok (.aload_n 0, 1) := dk_42 (dk_at dksX8_land_0 17 rfl rfl)
theorem dX8_land_18 : decode cX8_land 18 = .ok (.iconst 1, 1) := dk_4 (dk_at dksX8_land_0 18 rfl rfl)
theorem dX8_land_19 : decode cX8_land 19 = .ok (.invokevirtual 298, 3) := dk_182 1 42 (dk_at dksX8_land_0 19 rfl rfl)
theorem dX8_land_22 : decode cX8_land 22 = .ok (.ireturn, 1) := dk_172 (dk_at dksX8_land_0 22 rfl rfl)
theorem dX8_land_23 : decode cX8_land 23 = .ok (.aload_n 0, 1) := dk_42 (dk_at dksX8_land_0 23 rfl rfl)
theorem dX8_land_24 : decode cX8_land 24 = .ok (.iconst 0, 1) := dk_3 (dk_at dksX8_land_1 0 rfl rfl)
theorem dX8_land_25 : decode cX8_land 25 = .ok (.putfield 157, 3) := dk_181 0 157 (dk_at dksX8_land_1 1 rfl rfl)
theorem dX8_land_28 : decode cX8_land 28 = .ok (.aload_n 0, 1) := dk_42 (dk_at dksX8_land_1 4 rfl rfl)
theorem dX8_land_29 : decode cX8_land 29 = .ok (.iload_n 1, 1) := dk_27 (dk_at dksX8_land_1 5 rfl rfl)
theorem dX8_land_30 : decode cX8_land 30 = .ok (.putfield 160, 3) := dk_181 0 160 (dk_at dksX8_land_1 6 rfl rfl)
theorem dX8_land_33 : decode cX8_land 33 = .ok (.aload_n 0, 1) := dk_42 (dk_at dksX8_land_1 9 rfl rfl)
theorem dX8_land_34 : decode cX8_land 34 = .ok (.iconst 0, 1) := dk_3 (dk_at dksX8_land_1 10 rfl rfl)
theorem dX8_land_35 : decode cX8_land 35 = .ok (.putfield 163, 3) := dk_181 0 163 (dk_at dksX8_land_1 11 rfl rfl)
theorem dX8_land_38 : decode cX8_land 38 = .ok (.aload_n 0, 1) := dk_42 (dk_at dksX8_land_1 14 rfl rfl)
theorem dX8_land_39 : decode cX8_land 39 = .ok (.iconst 0, 1) := dk_3 (dk_at dksX8_land_1 15 rfl rfl)
theorem dX8_land_40 : decode cX8_land 40 = .ok (.putfield 199, 3) := dk_181 0 199 (dk_at dksX8_land_1 16 rfl rfl)
theorem dX8_land_43 : decode cX8_land 43 = .ok (.aload_n 0, 1) := dk_42 (dk_at dksX8_land_1 19 rfl rfl)
theorem dX8_land_44 : decode cX8_land 44 = .ok (.iconst (-1), 1) := dk_2 (dk_at dksX8_land_1 20 rfl rfl)
theorem dX8_land_45 : decode cX8_land 45 = .ok (.putfield 66, 3) := dk_181 0 66 (dk_at dksX8_land_1 21 rfl rfl)
theorem dX8_land_48 : decode cX8_land 48 = .ok (.iconst 0, 1) := dk_3 (dk_at dksX8_land_2 0 rfl rfl)
theorem dX8_land_49 : decode cX8_land 49 = .ok (.istore_n 2, 1) := dk_61 (dk_at dksX8_land_2 1 rfl rfl)
theorem dX8_land_50 : decode cX8_land 50 = .ok (.iload_n 2, 1) := dk_28 (dk_at dksX8_land_2 2 rfl rfl)
theorem dX8_land_51 : decode cX8_land 51 = .ok (.bipush 7, 2) := dk_16 7 (dk_at dksX8_land_2 3 rfl rfl)
theorem dX8_land_53 : decode cX8_land 53 = .ok (.if_icmp .ge 29, 3) := dk_162 0 29 (dk_at dksX8_land_2 5 rfl rfl)
theorem dX8_land_56 : decode cX8_land 56 = .ok (.aload_n 0, 1) := dk_42 (dk_at dksX8_land_2 8 rfl rfl)
theorem dX8_land_57 : decode cX8_land 57 = .ok (.getfield 34, 3) := dk_180 0 34 (dk_at dksX8_land_2 9 rfl rfl)
theorem dX8_land_60 : decode cX8_land 60 = .ok (.bipush 7, 2) := dk_16 7 (dk_at dksX8_land_2 12 rfl rfl)
theorem dX8_land_62 : decode cX8_land 62 = .ok (.iload_n 2, 1) := dk_28 (dk_at dksX8_land_2 14 rfl rfl)
theorem dX8_land_63 : decode cX8_land 63 = .ok (.iadd, 1) := dk_96 (dk_at dksX8_land_2 15 rfl rfl)
theorem dX8_land_64 : decode cX8_land 64 = .ok (.iload_n 2, 1) := dk_28 (dk_at dksX8_land_2 16 rfl rfl)
theorem dX8_land_65 : decode cX8_land 65 = .ok (.iconst 3, 1) := dk_6 (dk_at dksX8_land_2 17 rfl rfl)
theorem dX8_land_66 : decode cX8_land 66 = .ok (.if_icmp .ne 8, 3) := dk_160 0 8 (dk_at dksX8_land_2 18 rfl rfl)
theorem dX8_land_69 : decode cX8_land 69 = .ok (.bipush 10, 2) := dk_16 10 (dk_at dksX8_land_2 21 rfl rfl)
theorem dX8_land_71 : decode cX8_land 71 = .ok (.goto 4, 3) := dk_167 0 4 (dk_at dksX8_land_3 0 rfl rfl)
theorem dX8_land_74 : decode cX8_land 74 = .ok (.iconst 0, 1) := dk_3 (dk_at dksX8_land_3 3 rfl rfl)
theorem dX8_land_75 : decode cX8_land 75 = .ok (.iastore, 1) := dk_79 (dk_at dksX8_land_3 4 rfl rfl)
theorem dX8_land_76 : decode cX8_land 76 = .ok (.iinc 2 1, 3) := dk_132 2 1 (dk_at dksX8_land_3 5 rfl rfl)
theorem dX8_land_79 : decode cX8_land 79 = .ok (.goto (-29), 3) := dk_167 255 227 (dk_at dksX8_land_3 8 rfl rfl)
theorem dX8_land_82 : decode cX8_land 82 = .ok (.iconst 0, 1) := dk_3 (dk_at dksX8_land_3 11 rfl rfl)
theorem dX8_land_83 : decode cX8_land 83 = .ok (.istore_n 2, 1) := dk_61 (dk_at dksX8_land_3 12 rfl rfl)
theorem dX8_land_84 : decode cX8_land 84 = .ok (.iload_n 2, 1) := dk_28 (dk_at dksX8_land_3 13 rfl rfl)
theorem dX8_land_85 : decode cX8_land 85 = .ok (.bipush 81, 2) := dk_16 81 (dk_at dksX8_land_3 14 rfl rfl)
theorem dX8_land_87 : decode cX8_land 87 = .ok (.if_icmp .ge 19, 3) := dk_162 0 19 (dk_at dksX8_land_3 16 rfl rfl)
theorem dX8_land_90 : decode cX8_land 90 = .ok (.aload_n 0, 1) := dk_42 (dk_at dksX8_land_3 19 rfl rfl)
theorem dX8_land_91 : decode cX8_land 91 = .ok (.getfield 38, 3) := dk_180 0 38 (dk_at dksX8_land_3 20 rfl rfl)
theorem dX8_land_94 : decode cX8_land 94 = .ok (.bipush 81, 2) := dk_16 81 (dk_at dksX8_land_4 0 rfl rfl)
theorem dX8_land_96 : decode cX8_land 96 = .ok (.iload_n 2, 1) := dk_28 (dk_at dksX8_land_4 2 rfl rfl)
theorem dX8_land_97 : decode cX8_land 97 = .ok (.iadd, 1) := dk_96 (dk_at dksX8_land_4 3 rfl rfl)
theorem dX8_land_98 : decode cX8_land 98 = .ok (.iconst 0, 1) := dk_3 (dk_at dksX8_land_4 4 rfl rfl)
theorem dX8_land_99 : decode cX8_land 99 = .ok (.iastore, 1) := dk_79 (dk_at dksX8_land_4 5 rfl rfl)
theorem dX8_land_100 : decode cX8_land 100 = .ok (.iinc 2 1, 3) := dk_132 2 1 (dk_at dksX8_land_4 6 rfl rfl)
theorem dX8_land_103 : decode cX8_land 103 = .ok (.goto (-19), 3) := dk_167 255 237 (dk_at dksX8_land_4 9 rfl rfl)
theorem dX8_land_106 : decode cX8_land 106 = .ok (.aload_n 0, 1) := dk_42 (dk_at dksX8_land_4 12 rfl rfl)
theorem dX8_land_107 : decode cX8_land 107 = .ok (.invokevirtual 224, 3) := dk_182 0 224 (dk_at dksX8_land_4 13 rfl rfl)
theorem dX8_land_110 : decode cX8_land 110 = .ok (.iconst 0, 1) := dk_3 (dk_at dksX8_land_4 16 rfl rfl)
theorem dX8_land_111 : decode cX8_land 111 = .ok (.istore_n 2, 1) := dk_61 (dk_at dksX8_land_4 17 rfl rfl)
theorem dX8_land_112 : decode cX8_land 112 = .ok (.aload_n 0, 1) := dk_42 (dk_at dksX8_land_4 18 rfl rfl)
theorem dX8_land_113 : decode cX8_land 113 = .ok (.getfield 199, 3) := dk_180 0 199 (dk_at dksX8_land_4 19 rfl rfl)
theorem dX8_land_116 : decode cX8_land 116 = .ok (.ifCond .ne 19, 3) := dk_154 0 19 (dk_at dksX8_land_5 0 rfl rfl)
theorem dX8_land_119 : decode cX8_land 119 = .ok (.aload_n 0, 1) := dk_42 (dk_at dksX8_land_5 3 rfl rfl)
theorem dX8_land_120 : decode cX8_land 120 = .ok (.getfield 173, 3) := dk_180 0 173 (dk_at dksX8_land_5 4 rfl rfl)
theorem dX8_land_123 : decode cX8_land 123 = .ok (.ifCond .eq 12, 3) := dk_153 0 12 (dk_at dksX8_land_5 7 rfl rfl)
theorem dX8_land_126 : decode cX8_land 126 = .ok (.aload_n 0, 1) := dk_42 (dk_at dksX8_land_5 10 rfl rfl)
theorem dX8_land_127 : decode cX8_land 127 = .ok (.iload_n 2, 1) := dk_28 (dk_at dksX8_land_5 11 rfl rfl)
theorem dX8_land_128 : decode cX8_land 128 = .ok (.invokevirtual 301, 3) := dk_182 1 45 (dk_at dksX8_land_5 12 rfl rfl)
theorem dX8_land_131 : decode cX8_land 131 = .ok (.istore_n 2, 1) := dk_61 (dk_at dksX8_land_5 15 rfl rfl)
theorem dX8_land_132 : decode cX8_land 132 = .ok (.goto (-20), 3) := dk_167 255 236 (dk_at dksX8_land_5 16 rfl rfl)
theorem dX8_land_135 : decode cX8_land 135 = .ok (.aload_n 0, 1) := dk_42 (dk_at dksX8_land_5 19 rfl rfl)
theorem dX8_land_136 : decode cX8_land 136 = .ok (.getfield 199, 3) := dk_180 0 199 (dk_at dksX8_land_5 20 rfl rfl)
theorem dX8_land_139 : decode cX8_land 139 = .ok (.ifCond .eq 26, 3) := dk_153 0 26 (dk_at dksX8_land_6 0 rfl rfl)
theorem dX8_land_142 : decode cX8_land 142 = .ok (.aload_n 0, 1) := dk_42 (dk_at dksX8_land_6 3 rfl rfl)
theorem dX8_land_143 : decode cX8_land 143 = .ok (.aload_n 0, 1) := dk_42 (dk_at dksX8_land_6 4 rfl rfl)
theorem dX8_land_144 : decode cX8_land 144 = .ok (.getfield 202, 3) := dk_180 0 202 (dk_at dksX8_land_6 5 rfl rfl)
theorem dX8_land_147 : decode cX8_land 147 = .ok (.putfield 66, 3) := dk_181 0 66 (dk_at dksX8_land_6 8 rfl rfl)
theorem dX8_land_150 : decode cX8_land 150 = .ok (.aload_n 0, 1) := dk_42 (dk_at dksX8_land_6 11 rfl rfl)
theorem dX8_land_151 : decode cX8_land 151 = .ok (.getfield 60, 3) := dk_180 0 60 (dk_at dksX8_land_6 12 rfl rfl)
theorem dX8_land_154 : decode cX8_land 154 = .ok (.iconst 0, 1) := dk_3 (dk_at dksX8_land_6 15 rfl rfl)
theorem dX8_land_155 : decode cX8_land 155 = .ok (.dup2, 1) := dk_92 (dk_at dksX8_land_6 16 rfl rfl)
theorem dX8_land_156 : decode cX8_land 156 = .ok (.iaload, 1) := dk_46 (dk_at dksX8_land_6 17 rfl rfl)
theorem dX8_land_157 : decode cX8_land 157 = .ok (.iconst 1, 1) := dk_4 (dk_at dksX8_land_6 18 rfl rfl)
theorem dX8_land_158 : decode cX8_land 158 = .ok (.iadd, 1) := dk_96 (dk_at dksX8_land_6 19 rfl rfl)
theorem dX8_land_159 : decode cX8_land 159 = .ok (.iastore, 1) := dk_79 (dk_at dksX8_land_6 20 rfl rfl)
theorem dX8_land_160 : decode cX8_land 160 = .ok (.aload_n 0, 1) := dk_42 (dk_at dksX8_land_6 21 rfl rfl)
theorem dX8_land_161 : decode cX8_land 161 = .ok (.getfield 199, 3) := dk_180 0 199 (dk_at dksX8_land_7 0 rfl rfl)
theorem dX8_land_164 : decode cX8_land 164 = .ok (.ireturn, 1) := dk_172 (dk_at dksX8_land_7 3 rfl rfl)
theorem dX8_land_165 : decode cX8_land 165 = .ok (.aload_n 0, 1) := dk_42 (dk_at dksX8_land_7 4 rfl rfl)
theorem dX8_land_166 : decode cX8_land 166 = .ok (.invokevirtual 304, 3) := dk_182 1 48 (dk_at dksX8_land_7 5 rfl rfl)
theorem dX8_land_169 : decode cX8_land 169 = .ok (.iconst 0, 1) := dk_3 (dk_at dksX8_land_7 8 rfl rfl)
theorem dX8_land_170 : decode cX8_land 170 = .ok (.ireturn, 1) := dk_172 (dk_at dksX8_land_7 9 rfl rfl)
abbrev cX8_fail : ByteArray := prog_20_method_3_code
def yX8_fail : MethodName := ⟨RX8, "fail", "(I)I"⟩
def dkwX8_fail_0 : List UInt8 := [42, 27, 181, 0, 150, 3, 172]
abbrev dktX8_fail_0 : List UInt8 := dkwX8_fail_0 ++ []
theorem dksX8_fail_0 : cX8_fail.data.toList.drop 0 = dktX8_fail_0 := by decide +kernel
theorem dX8_fail_0 : decode cX8_fail 0 = .ok (.aload_n 0, 1) := dk_42 (dk_at dksX8_fail_0 0 rfl rfl)
theorem dX8_fail_1 : decode cX8_fail 1 = .ok (.iload_n 1, 1) := dk_27 (dk_at dksX8_fail_0 1 rfl rfl)
theorem dX8_fail_2 : decode cX8_fail 2 = .ok (.putfield 150, 3) := dk_181 0 150 (dk_at dksX8_fail_0 2 rfl rfl)
theorem dX8_fail_5 : decode cX8_fail 5 = .ok (.iconst 0, 1) := dk_3 (dk_at dksX8_fail_0 5 rfl rfl)
theorem dX8_fail_6 : decode cX8_fail 6 = .ok (.ireturn, 1) := dk_172 (dk_at dksX8_fail_0 6 rfl rfl)
abbrev cX8_stepOn : ByteArray := prog_20_method_13_code
def yX8_stepOn : MethodName := ⟨RX8, "stepOn", "()V"⟩
def dkwX8_stepOn_9 : List UInt8 := [181, 0, 173, 42, 42, 180, 0, 163, 181, 0, 196, 177]
abbrev dktX8_stepOn_9 : List UInt8 := dkwX8_stepOn_9 ++ []
def dkwX8_stepOn_8 : List UInt8 := [42, 89, 180, 0, 163, 4, 96, 181, 0, 163, 42, 27, 184, 0, 193, 153, 0, 7, 6, 167, 0, 4, 7]
abbrev dktX8_stepOn_8 : List UInt8 := dkwX8_stepOn_8 ++ dktX8_stepOn_9
def dkwX8_stepOn_7 : List UInt8 := [181, 0, 183, 42, 89, 180, 0, 163, 4, 96, 181, 0, 163, 167, 255, 204, 42, 5, 181, 0, 173, 167, 0, 29]
abbrev dktX8_stepOn_7 : List UInt8 := dkwX8_stepOn_7 ++ dktX8_stepOn_8
def dkwX8_stepOn_6 : List UInt8 := [18, 186, 16, 10, 42, 180, 0, 183, 104, 42, 42, 180, 0, 163, 182, 0, 166, 96, 16, 48, 100, 184, 0, 187]
abbrev dktX8_stepOn_6 : List UInt8 := dkwX8_stepOn_6 ++ dktX8_stepOn_7
def dkwX8_stepOn_5 : List UInt8 := [153, 0, 71, 42, 3, 181, 0, 183, 42, 42, 180, 0, 163, 182, 0, 166, 184, 0, 180, 153, 0, 44, 42]
abbrev dktX8_stepOn_5 : List UInt8 := dkwX8_stepOn_5 ++ dktX8_stepOn_6
def dkwX8_stepOn_4 : List UInt8 := [180, 0, 163, 4, 96, 181, 0, 163, 167, 255, 232, 42, 4, 181, 0, 173, 167, 0, 104, 27, 184, 0, 180]
abbrev dktX8_stepOn_4 : List UInt8 := dkwX8_stepOn_4 ++ dktX8_stepOn_5
def dkwX8_stepOn_3 : List UInt8 := [184, 0, 176, 153, 0, 38, 42, 42, 180, 0, 163, 182, 0, 166, 184, 0, 176, 153, 0, 16, 42, 89]
abbrev dktX8_stepOn_3 : List UInt8 := dkwX8_stepOn_3 ++ dktX8_stepOn_4
def dkwX8_stepOn_2 : List UInt8 := [42, 42, 180, 0, 163, 182, 0, 166, 60, 27, 2, 160, 0, 11, 42, 3, 181, 0, 173, 167, 0, 146, 27]
abbrev dktX8_stepOn_2 : List UInt8 := dkwX8_stepOn_2 ++ dktX8_stepOn_3
def dkwX8_stepOn_1 : List UInt8 := [160, 0, 16, 42, 89, 180, 0, 163, 4, 96, 181, 0, 163, 167, 255, 220, 42, 42, 180, 0, 163, 181, 0, 170]
abbrev dktX8_stepOn_1 : List UInt8 := dkwX8_stepOn_1 ++ dktX8_stepOn_2
def dkwX8_stepOn_0 : List UInt8 := [42, 42, 180, 0, 163, 182, 0, 166, 16, 32, 159, 0, 16, 42, 42, 180, 0, 163, 182, 0, 166, 16, 10]
abbrev dktX8_stepOn_0 : List UInt8 := dkwX8_stepOn_0 ++ dktX8_stepOn_1
theorem dksX8_stepOn_0 : cX8_stepOn.data.toList.drop 0 = dktX8_stepOn_0 := by decide +kernel
theorem dksX8_stepOn_1 : cX8_stepOn.data.toList.drop 23 = dktX8_stepOn_1 := dk_seg dksX8_stepOn_0 23 rfl rfl
theorem dksX8_stepOn_2 : cX8_stepOn.data.toList.drop 47 = dktX8_stepOn_2 := dk_seg dksX8_stepOn_1 24 rfl rfl
theorem dksX8_stepOn_3 : cX8_stepOn.data.toList.drop 70 = dktX8_stepOn_3 := dk_seg dksX8_stepOn_2 23 rfl rfl
theorem dksX8_stepOn_4 : cX8_stepOn.data.toList.drop 92 = dktX8_stepOn_4 := dk_seg dksX8_stepOn_3 22 rfl rfl
theorem dksX8_stepOn_5 : cX8_stepOn.data.toList.drop 115 = dktX8_stepOn_5 := dk_seg dksX8_stepOn_4 23 rfl rfl
theorem dksX8_stepOn_6 : cX8_stepOn.data.toList.drop 138 = dktX8_stepOn_6 := dk_seg dksX8_stepOn_5 23 rfl rfl
theorem dksX8_stepOn_7 : cX8_stepOn.data.toList.drop 162 = dktX8_stepOn_7 := dk_seg dksX8_stepOn_6 24 rfl rfl
theorem dksX8_stepOn_8 : cX8_stepOn.data.toList.drop 186 = dktX8_stepOn_8 := dk_seg dksX8_stepOn_7 24 rfl rfl
theorem dksX8_stepOn_9 : cX8_stepOn.data.toList.drop 209 = dktX8_stepOn_9 := dk_seg dksX8_stepOn_8 23 rfl rfl
theorem dX8_stepOn_0 : decode cX8_stepOn 0 = .ok (.aload_n 0, 1) := dk_42 (dk_at dksX8_stepOn_0 0 rfl rfl)
theorem dX8_stepOn_1 : decode cX8_stepOn 1 = .ok (.aload_n 0, 1) := dk_42 (dk_at dksX8_stepOn_0 1 rfl rfl)
theorem dX8_stepOn_2 : decode cX8_stepOn 2 = .ok (.getfield 163, 3) := dk_180 0 163 (dk_at dksX8_stepOn_0 2 rfl rfl)
theorem dX8_stepOn_5 : decode cX8_stepOn 5 = .ok (.invokevirtual 166, 3) := dk_182 0 166 (dk_at dksX8_stepOn_0 5 rfl rfl)
theorem dX8_stepOn_8 : decode cX8_stepOn 8 = .ok (.bipush 32, 2) := dk_16 32 (dk_at dksX8_stepOn_0 8 rfl rfl)
theorem dX8_stepOn_10 : decode cX8_stepOn 10 = .ok (.if_icmp .eq 16, 3) := dk_159 0 16 (dk_at dksX8_stepOn_0 10 rfl rfl)
theorem dX8_stepOn_13 : decode cX8_stepOn 13 = .ok (.aload_n 0, 1) := dk_42 (dk_at dksX8_stepOn_0 13 rfl rfl)
theorem dX8_stepOn_14 : decode cX8_stepOn 14 = .ok (.aload_n 0, 1) := dk_42 (dk_at dksX8_stepOn_0 14 rfl rfl)
theorem dX8_stepOn_15 : decode cX8_stepOn 15 = .ok (.getfield 163, 3) := dk_180 0 163 (dk_at dksX8_stepOn_0 15 rfl rfl)
theorem dX8_stepOn_18 : decode cX8_stepOn 18 = .ok (.invokevirtual 166, 3) := dk_182 0 166 (dk_at dksX8_stepOn_0 18 rfl rfl)
theorem dX8_stepOn_21 : decode cX8_stepOn 21 = .ok (.bipush 10, 2) := dk_16 10 (dk_at dksX8_stepOn_0 21 rfl rfl)
theorem dX8_stepOn_23 : decode cX8_stepOn 23 = .ok (.if_icmp .ne 16, 3) := dk_160 0 16 (dk_at dksX8_stepOn_1 0 rfl rfl)
theorem dX8_stepOn_26 : decode cX8_stepOn 26 = .ok (.aload_n 0, 1) := dk_42 (dk_at dksX8_stepOn_1 3 rfl rfl)
theorem dX8_stepOn_27 : decode cX8_stepOn 27 = .ok (.dup, 1) := dk_89 (dk_at dksX8_stepOn_1 4 rfl rfl)
theorem dX8_stepOn_28 : decode cX8_stepOn 28 = .ok (.getfield 163, 3) := dk_180 0 163 (dk_at dksX8_stepOn_1 5 rfl rfl)
theorem dX8_stepOn_31 : decode cX8_stepOn 31 = .ok (.iconst 1, 1) := dk_4 (dk_at dksX8_stepOn_1 8 rfl rfl)
theorem dX8_stepOn_32 : decode cX8_stepOn 32 = .ok (.iadd, 1) := dk_96 (dk_at dksX8_stepOn_1 9 rfl rfl)
theorem dX8_stepOn_33 : decode cX8_stepOn 33 = .ok (.putfield 163, 3) := dk_181 0 163 (dk_at dksX8_stepOn_1 10 rfl rfl)
theorem dX8_stepOn_36 : decode cX8_stepOn 36 = .ok (.goto (-36), 3) := dk_167 255 220 (dk_at dksX8_stepOn_1 13 rfl rfl)
theorem dX8_stepOn_39 : decode cX8_stepOn 39 = .ok (.aload_n 0, 1) := dk_42 (dk_at dksX8_stepOn_1 16 rfl rfl)
theorem dX8_stepOn_40 : decode cX8_stepOn 40 = .ok (.aload_n 0, 1) := dk_42 (dk_at dksX8_stepOn_1 17 rfl rfl)
theorem dX8_stepOn_41 : decode cX8_stepOn 41 = .ok (.getfield 163, 3) := dk_180 0 163 (dk_at dksX8_stepOn_1 18 rfl rfl)
theorem dX8_stepOn_44 : decode cX8_stepOn 44 = .ok (.putfield 170, 3) := dk_181 0 170 (dk_at dksX8_stepOn_1 21 rfl rfl)
theorem dX8_stepOn_47 : decode cX8_stepOn 47 = .ok (.aload_n 0, 1) := dk_42 (dk_at dksX8_stepOn_2 0 rfl rfl)
theorem dX8_stepOn_48 : decode cX8_stepOn 48 = .ok (.aload_n 0, 1) := dk_42 (dk_at dksX8_stepOn_2 1 rfl rfl)
theorem dX8_stepOn_49 : decode cX8_stepOn 49 = .ok (.getfield 163, 3) := dk_180 0 163 (dk_at dksX8_stepOn_2 2 rfl rfl)
theorem dX8_stepOn_52 : decode cX8_stepOn 52 = .ok (.invokevirtual 166, 3) := dk_182 0 166 (dk_at dksX8_stepOn_2 5 rfl rfl)
theorem dX8_stepOn_55 : decode cX8_stepOn 55 = .ok (.istore_n 1, 1) := dk_60 (dk_at dksX8_stepOn_2 8 rfl rfl)
theorem dX8_stepOn_56 : decode cX8_stepOn 56 = .ok (.iload_n 1, 1) := dk_27 (dk_at dksX8_stepOn_2 9 rfl rfl)
theorem dX8_stepOn_57 : decode cX8_stepOn 57 = .ok (.iconst (-1), 1) := dk_2 (dk_at dksX8_stepOn_2 10 rfl rfl)
theorem dX8_stepOn_58 : decode cX8_stepOn 58 = .ok (.if_icmp .ne 11, 3) := dk_160 0 11 (dk_at dksX8_stepOn_2 11 rfl rfl)
theorem dX8_stepOn_61 : decode cX8_stepOn 61 = .ok (.aload_n 0, 1) := dk_42 (dk_at dksX8_stepOn_2 14 rfl rfl)
theorem dX8_stepOn_62 : decode cX8_stepOn 62 = .ok (.iconst 0, 1) := dk_3 (dk_at dksX8_stepOn_2 15 rfl rfl)
theorem dX8_stepOn_63 : decode cX8_stepOn 63 = .ok (.putfield 173, 3) := dk_181 0 173 (dk_at dksX8_stepOn_2 16 rfl rfl)
theorem dX8_stepOn_66 : decode cX8_stepOn 66 = .ok (.goto 146, 3) := dk_167 0 146 (dk_at dksX8_stepOn_2 19 rfl rfl)
theorem dX8_stepOn_69 : decode cX8_stepOn 69 = .ok (.iload_n 1, 1) := dk_27 (dk_at dksX8_stepOn_2 22 rfl rfl)
theorem dX8_stepOn_70 : decode cX8_stepOn 70 = .ok (.invokestatic 176, 3) := dk_184 0 176 (dk_at dksX8_stepOn_3 0 rfl rfl)
theorem dX8_stepOn_73 : decode cX8_stepOn 73 = .ok (.ifCond .eq 38, 3) := dk_153 0 38 (dk_at dksX8_stepOn_3 3 rfl rfl)
theorem dX8_stepOn_76 : decode cX8_stepOn 76 = .ok (.aload_n 0, 1) := dk_42 (dk_at dksX8_stepOn_3 6 rfl rfl)
theorem dX8_stepOn_77 : decode cX8_stepOn 77 = .ok (.aload_n 0, 1) := dk_42 (dk_at dksX8_stepOn_3 7 rfl rfl)
theorem dX8_stepOn_78 : decode cX8_stepOn 78 = .ok (.getfield 163, 3) := dk_180 0 163 (dk_at dksX8_stepOn_3 8 rfl rfl)
theorem dX8_stepOn_81 : decode cX8_stepOn 81 = .ok (.invokevirtual 166, 3) := dk_182 0 166 (dk_at dksX8_stepOn_3 11 rfl rfl)
theorem dX8_stepOn_84 : decode cX8_stepOn 84 = .ok (.invokestatic 176, 3) := dk_184 0 176 (dk_at dksX8_stepOn_3 14 rfl rfl)
theorem dX8_stepOn_87 : decode cX8_stepOn 87 = .ok (.ifCond .eq 16, 3) := dk_153 0 16 (dk_at dksX8_stepOn_3 17 rfl rfl)
theorem dX8_stepOn_90 : decode cX8_stepOn 90 = .ok (.aload_n 0, 1) := dk_42 (dk_at dksX8_stepOn_3 20 rfl rfl)
theorem dX8_stepOn_91 : decode cX8_stepOn 91 = .ok (.dup, 1) := dk_89 (dk_at dksX8_stepOn_3 21 rfl rfl)
theorem dX8_stepOn_92 : decode cX8_stepOn 92 = .ok (.getfield 163, 3) := dk_180 0 163 (dk_at dksX8_stepOn_4 0 rfl rfl)
theorem dX8_stepOn_95 : decode cX8_stepOn 95 = .ok (.iconst 1, 1) := dk_4 (dk_at dksX8_stepOn_4 3 rfl rfl)
theorem dX8_stepOn_96 : decode cX8_stepOn 96 = .ok (.iadd, 1) := dk_96 (dk_at dksX8_stepOn_4 4 rfl rfl)
theorem dX8_stepOn_97 : decode cX8_stepOn 97 = .ok (.putfield 163, 3) := dk_181 0 163 (dk_at dksX8_stepOn_4 5 rfl rfl)
theorem dX8_stepOn_100 : decode cX8_stepOn 100 = .ok (.goto (-24), 3) := dk_167 255 232 (dk_at dksX8_stepOn_4 8 rfl rfl)
theorem dX8_stepOn_103 : decode cX8_stepOn 103 = .ok (.aload_n 0, 1) := dk_42 (dk_at dksX8_stepOn_4 11 rfl rfl)
theorem dX8_stepOn_104 : decode cX8_stepOn 104 = .ok (.iconst 1, 1) := dk_4 (dk_at dksX8_stepOn_4 12 rfl rfl)
theorem dX8_stepOn_105 : decode cX8_stepOn 105 = .ok (.putfield 173, 3) := dk_181 0 173 (dk_at dksX8_stepOn_4 13 rfl rfl)
theorem dX8_stepOn_108 : decode cX8_stepOn 108 = .ok (.goto 104, 3) := dk_167 0 104 (dk_at dksX8_stepOn_4 16 rfl rfl)
theorem dX8_stepOn_111 : decode cX8_stepOn 111 = .ok (.iload_n 1, 1) := dk_27 (dk_at dksX8_stepOn_4 19 rfl rfl)
theorem dX8_stepOn_112 : decode cX8_stepOn 112 = .ok (.invokestatic 180, 3) := dk_184 0 180 (dk_at dksX8_stepOn_4 20 rfl rfl)
theorem dX8_stepOn_115 : decode cX8_stepOn 115 = .ok (.ifCond .eq 71, 3) := dk_153 0 71 (dk_at dksX8_stepOn_5 0 rfl rfl)
theorem dX8_stepOn_118 : decode cX8_stepOn 118 = .ok (.aload_n 0, 1) := dk_42 (dk_at dksX8_stepOn_5 3 rfl rfl)
theorem dX8_stepOn_119 : decode cX8_stepOn 119 = .ok (.iconst 0, 1) := dk_3 (dk_at dksX8_stepOn_5 4 rfl rfl)
theorem dX8_stepOn_120 : decode cX8_stepOn 120 = .ok (.putfield 183, 3) := dk_181 0 183 (dk_at dksX8_stepOn_5 5 rfl rfl)
theorem dX8_stepOn_123 : decode cX8_stepOn 123 = .ok (.aload_n 0, 1) := dk_42 (dk_at dksX8_stepOn_5 8 rfl rfl)
theorem dX8_stepOn_124 : decode cX8_stepOn 124 = .ok (.aload_n 0, 1) := dk_42 (dk_at dksX8_stepOn_5 9 rfl rfl)
theorem dX8_stepOn_125 : decode cX8_stepOn 125 = .ok (.getfield 163, 3) := dk_180 0 163 (dk_at dksX8_stepOn_5 10 rfl rfl)
theorem dX8_stepOn_128 : decode cX8_stepOn 128 = .ok (.invokevirtual 166, 3) := dk_182 0 166 (dk_at dksX8_stepOn_5 13 rfl rfl)
theorem dX8_stepOn_131 : decode cX8_stepOn 131 = .ok (.invokestatic 180, 3) := dk_184 0 180 (dk_at dksX8_stepOn_5 16 rfl rfl)
theorem dX8_stepOn_134 : decode cX8_stepOn 134 = .ok (.ifCond .eq 44, 3) := dk_153 0 44 (dk_at dksX8_stepOn_5 19 rfl rfl)
theorem dX8_stepOn_137 : decode cX8_stepOn 137 = .ok (.aload_n 0, 1) := dk_42 (dk_at dksX8_stepOn_5 22 rfl rfl)
theorem dX8_stepOn_138 : decode cX8_stepOn 138 = .ok (.ldc 186, 2) := dk_18 186 (dk_at dksX8_stepOn_6 0 rfl rfl)
theorem dX8_stepOn_140 : decode cX8_stepOn 140 = .ok (.bipush 10, 2) := dk_16 10 (dk_at dksX8_stepOn_6 2 rfl rfl)
theorem dX8_stepOn_142 : decode cX8_stepOn 142 = .ok (.aload_n 0, 1) := dk_42 (dk_at dksX8_stepOn_6 4 rfl rfl)
theorem dX8_stepOn_143 : decode cX8_stepOn 143 = .ok (.getfield 183, 3) := dk_180 0 183 (dk_at dksX8_stepOn_6 5 rfl rfl)
theorem dX8_stepOn_146 : decode cX8_stepOn 146 = .ok (.imul, 1) := dk_104 (dk_at dksX8_stepOn_6 8 rfl rfl)
theorem dX8_stepOn_147 : decode cX8_stepOn 147 = .ok (.aload_n 0, 1) := dk_42 (dk_at dksX8_stepOn_6 9 rfl rfl)
theorem dX8_stepOn_148 : decode cX8_stepOn 148 = .ok (.aload_n 0, 1) := dk_42 (dk_at dksX8_stepOn_6 10 rfl rfl)
theorem dX8_stepOn_149 : decode cX8_stepOn 149 = .ok (.getfield 163, 3) := dk_180 0 163 (dk_at dksX8_stepOn_6 11 rfl rfl)
theorem dX8_stepOn_152 : decode cX8_stepOn 152 = .ok (.invokevirtual 166, 3) := dk_182 0 166 (dk_at dksX8_stepOn_6 14 rfl rfl)
theorem dX8_stepOn_155 : decode cX8_stepOn 155 = .ok (.iadd, 1) := dk_96 (dk_at dksX8_stepOn_6 17 rfl rfl)
theorem dX8_stepOn_156 : decode cX8_stepOn 156 = .ok (.bipush 48, 2) := dk_16 48 (dk_at dksX8_stepOn_6 18 rfl rfl)
theorem dX8_stepOn_158 : decode cX8_stepOn 158 = .ok (.isub, 1) := dk_100 (dk_at dksX8_stepOn_6 20 rfl rfl)
theorem dX8_stepOn_159 : decode cX8_stepOn 159 = .ok (.invokestatic 187, 3) := dk_184 0 187 (dk_at dksX8_stepOn_6 21 rfl rfl)
theorem dX8_stepOn_162 : decode cX8_stepOn 162 = .ok (.putfield 183, 3) := dk_181 0 183 (dk_at dksX8_stepOn_7 0 rfl rfl)
theorem dX8_stepOn_165 : decode cX8_stepOn 165 = .ok (.aload_n 0, 1) := dk_42 (dk_at dksX8_stepOn_7 3 rfl rfl)
theorem dX8_stepOn_166 : decode cX8_stepOn 166 = .ok (.dup, 1) := dk_89 (dk_at dksX8_stepOn_7 4 rfl rfl)
theorem dX8_stepOn_167 : decode cX8_stepOn 167 = .ok (.getfield 163, 3) := dk_180 0 163 (dk_at dksX8_stepOn_7 5 rfl rfl)
theorem dX8_stepOn_170 : decode cX8_stepOn 170 = .ok (.iconst 1, 1) := dk_4 (dk_at dksX8_stepOn_7 8 rfl rfl)
theorem dX8_stepOn_171 : decode cX8_stepOn 171 = .ok (.iadd, 1) := dk_96 (dk_at dksX8_stepOn_7 9 rfl rfl)
theorem dX8_stepOn_172 : decode cX8_stepOn 172 = .ok (.putfield 163, 3) := dk_181 0 163 (dk_at dksX8_stepOn_7 10 rfl rfl)
theorem dX8_stepOn_175 : decode cX8_stepOn 175 = .ok (.goto (-52), 3) := dk_167 255 204 (dk_at dksX8_stepOn_7 13 rfl rfl)
theorem dX8_stepOn_178 : decode cX8_stepOn 178 = .ok (.aload_n 0, 1) := dk_42 (dk_at dksX8_stepOn_7 16 rfl rfl)
theorem dX8_stepOn_179 : decode cX8_stepOn 179 = .ok (.iconst 2, 1) := dk_5 (dk_at dksX8_stepOn_7 17 rfl rfl)
theorem dX8_stepOn_180 : decode cX8_stepOn 180 = .ok (.putfield 173, 3) := dk_181 0 173 (dk_at dksX8_stepOn_7 18 rfl rfl)
theorem dX8_stepOn_183 : decode cX8_stepOn 183 = .ok (.goto 29, 3) := dk_167 0 29 (dk_at dksX8_stepOn_7 21 rfl rfl)
theorem dX8_stepOn_186 : decode cX8_stepOn 186 = .ok (.aload_n 0, 1) := dk_42 (dk_at dksX8_stepOn_8 0 rfl rfl)
theorem dX8_stepOn_187 : decode cX8_stepOn 187 = .ok (.dup, 1) := dk_89 (dk_at dksX8_stepOn_8 1 rfl rfl)
theorem dX8_stepOn_188 : decode cX8_stepOn 188 = .ok (.getfield 163, 3) := dk_180 0 163 (dk_at dksX8_stepOn_8 2 rfl rfl)
theorem dX8_stepOn_191 : decode cX8_stepOn 191 = .ok (.iconst 1, 1) := dk_4 (dk_at dksX8_stepOn_8 5 rfl rfl)
theorem dX8_stepOn_192 : decode cX8_stepOn 192 = .ok (.iadd, 1) := dk_96 (dk_at dksX8_stepOn_8 6 rfl rfl)
theorem dX8_stepOn_193 : decode cX8_stepOn 193 = .ok (.putfield 163, 3) := dk_181 0 163 (dk_at dksX8_stepOn_8 7 rfl rfl)
theorem dX8_stepOn_196 : decode cX8_stepOn 196 = .ok (.aload_n 0, 1) := dk_42 (dk_at dksX8_stepOn_8 10 rfl rfl)
theorem dX8_stepOn_197 : decode cX8_stepOn 197 = .ok (.iload_n 1, 1) := dk_27 (dk_at dksX8_stepOn_8 11 rfl rfl)
theorem dX8_stepOn_198 : decode cX8_stepOn 198 = .ok (.invokestatic 193, 3) := dk_184 0 193 (dk_at dksX8_stepOn_8 12 rfl rfl)
theorem dX8_stepOn_201 : decode cX8_stepOn 201 = .ok (.ifCond .eq 7, 3) := dk_153 0 7 (dk_at dksX8_stepOn_8 15 rfl rfl)
theorem dX8_stepOn_204 : decode cX8_stepOn 204 = .ok (.iconst 3, 1) := dk_6 (dk_at dksX8_stepOn_8 18 rfl rfl)
theorem dX8_stepOn_205 : decode cX8_stepOn 205 = .ok (.goto 4, 3) := dk_167 0 4 (dk_at dksX8_stepOn_8 19 rfl rfl)
theorem dX8_stepOn_208 : decode cX8_stepOn 208 = .ok (.iconst 4, 1) := dk_7 (dk_at dksX8_stepOn_8 22 rfl rfl)
theorem dX8_stepOn_209 : decode cX8_stepOn 209 = .ok (.putfield 173, 3) := dk_181 0 173 (dk_at dksX8_stepOn_9 0 rfl rfl)
theorem dX8_stepOn_212 : decode cX8_stepOn 212 = .ok (.aload_n 0, 1) := dk_42 (dk_at dksX8_stepOn_9 3 rfl rfl)
theorem dX8_stepOn_213 : decode cX8_stepOn 213 = .ok (.aload_n 0, 1) := dk_42 (dk_at dksX8_stepOn_9 4 rfl rfl)
theorem dX8_stepOn_214 : decode cX8_stepOn 214 = .ok (.getfield 163, 3) := dk_180 0 163 (dk_at dksX8_stepOn_9 5 rfl rfl)
theorem dX8_stepOn_217 : decode cX8_stepOn 217 = .ok (.putfield 196, 3) := dk_181 0 196 (dk_at dksX8_stepOn_9 8 rfl rfl)
theorem dX8_stepOn_220 : decode cX8_stepOn 220 = .ok (.return_, 1) := dk_177 (dk_at dksX8_stepOn_9 11 rfl rfl)
abbrev cX8_byteAt : ByteArray := prog_20_method_9_code
def yX8_byteAt : MethodName := ⟨RX8, "byteAt", "(I)I"⟩
def dkwX8_byteAt_0 : List UInt8 := [27, 42, 180, 0, 160, 162, 0, 12, 42, 180, 0, 63, 27, 46, 167, 0, 4, 2, 172]
abbrev dktX8_byteAt_0 : List UInt8 := dkwX8_byteAt_0 ++ []
theorem dksX8_byteAt_0 : cX8_byteAt.data.toList.drop 0 = dktX8_byteAt_0 := by decide +kernel
theorem dX8_byteAt_0 : decode cX8_byteAt 0 = .ok (.iload_n 1, 1) := dk_27 (dk_at dksX8_byteAt_0 0 rfl rfl)
theorem dX8_byteAt_1 : decode cX8_byteAt 1 = .ok (.aload_n 0, 1) := dk_42 (dk_at dksX8_byteAt_0 1 rfl rfl)
theorem dX8_byteAt_2 : decode cX8_byteAt 2 = .ok (.getfield 160, 3) := dk_180 0 160 (dk_at dksX8_byteAt_0 2 rfl rfl)
theorem dX8_byteAt_5 : decode cX8_byteAt 5 = .ok (.if_icmp .ge 12, 3) := dk_162 0 12 (dk_at dksX8_byteAt_0 5 rfl rfl)
theorem dX8_byteAt_8 : decode cX8_byteAt 8 = .ok (.aload_n 0, 1) := dk_42 (dk_at dksX8_byteAt_0 8 rfl rfl)
theorem dX8_byteAt_9 : decode cX8_byteAt 9 = .ok (.getfield 63, 3) := dk_180 0 63 (dk_at dksX8_byteAt_0 9 rfl rfl)
theorem dX8_byteAt_12 : decode cX8_byteAt 12 = .ok (.iload_n 1, 1) := dk_27 (dk_at dksX8_byteAt_0 12 rfl rfl)
theorem dX8_byteAt_13 : decode cX8_byteAt 13 = .ok (.iaload, 1) := dk_46 (dk_at dksX8_byteAt_0 13 rfl rfl)
theorem dX8_byteAt_14 : decode cX8_byteAt 14 = .ok (.goto 4, 3) := dk_167 0 4 (dk_at dksX8_byteAt_0 14 rfl rfl)
theorem dX8_byteAt_17 : decode cX8_byteAt 17 = .ok (.iconst (-1), 1) := dk_2 (dk_at dksX8_byteAt_0 17 rfl rfl)
theorem dX8_byteAt_18 : decode cX8_byteAt 18 = .ok (.ireturn, 1) := dk_172 (dk_at dksX8_byteAt_0 18 rfl rfl)
abbrev cX8_isLetter : ByteArray := prog_20_method_10_code
def yX8_isLetter : MethodName := ⟨RX8, "isLetter", "(I)Z"⟩
def dkwX8_isLetter_0 : List UInt8 := [26, 16, 97, 161, 0, 13, 26, 16, 122, 163, 0, 7, 4, 167, 0, 4, 3, 172]
abbrev dktX8_isLetter_0 : List UInt8 := dkwX8_isLetter_0 ++ []
theorem dksX8_isLetter_0 : cX8_isLetter.data.toList.drop 0 = dktX8_isLetter_0 := by decide +kernel
theorem dX8_isLetter_0 : decode cX8_isLetter 0 = .ok (.iload_n 0, 1) := dk_26 (dk_at dksX8_isLetter_0 0 rfl rfl)
theorem dX8_isLetter_1 : decode cX8_isLetter 1 = .ok (.bipush 97, 2) := dk_16 97 (dk_at dksX8_isLetter_0 1 rfl rfl)
theorem dX8_isLetter_3 : decode cX8_isLetter 3 = .ok (.if_icmp .lt 13, 3) := dk_161 0 13 (dk_at dksX8_isLetter_0 3 rfl rfl)
theorem dX8_isLetter_6 : decode cX8_isLetter 6 = .ok (.iload_n 0, 1) := dk_26 (dk_at dksX8_isLetter_0 6 rfl rfl)
theorem dX8_isLetter_7 : decode cX8_isLetter 7 = .ok (.bipush 122, 2) := dk_16 122 (dk_at dksX8_isLetter_0 7 rfl rfl)
theorem dX8_isLetter_9 : decode cX8_isLetter 9 = .ok (.if_icmp .gt 7, 3) := dk_163 0 7 (dk_at dksX8_isLetter_0 9 rfl rfl)
theorem dX8_isLetter_12 : decode cX8_isLetter 12 = .ok (.iconst 1, 1) := dk_4 (dk_at dksX8_isLetter_0 12 rfl rfl)
theorem dX8_isLetter_13 : decode cX8_isLetter 13 = .ok (.goto 4, 3) := dk_167 0 4 (dk_at dksX8_isLetter_0 13 rfl rfl)
theorem dX8_isLetter_16 : decode cX8_isLetter 16 = .ok (.iconst 0, 1) := dk_3 (dk_at dksX8_isLetter_0 16 rfl rfl)
theorem dX8_isLetter_17 : decode cX8_isLetter 17 = .ok (.ireturn, 1) := dk_172 (dk_at dksX8_isLetter_0 17 rfl rfl)
abbrev cX8_isDigit : ByteArray := prog_20_method_11_code
def yX8_isDigit : MethodName := ⟨RX8, "isDigit", "(I)Z"⟩
def dkwX8_isDigit_0 : List UInt8 := [26, 16, 48, 161, 0, 13, 26, 16, 57, 163, 0, 7, 4, 167, 0, 4, 3, 172]
abbrev dktX8_isDigit_0 : List UInt8 := dkwX8_isDigit_0 ++ []
theorem dksX8_isDigit_0 : cX8_isDigit.data.toList.drop 0 = dktX8_isDigit_0 := by decide +kernel
theorem dX8_isDigit_0 : decode cX8_isDigit 0 = .ok (.iload_n 0, 1) := dk_26 (dk_at dksX8_isDigit_0 0 rfl rfl)
theorem dX8_isDigit_1 : decode cX8_isDigit 1 = .ok (.bipush 48, 2) := dk_16 48 (dk_at dksX8_isDigit_0 1 rfl rfl)
theorem dX8_isDigit_3 : decode cX8_isDigit 3 = .ok (.if_icmp .lt 13, 3) := dk_161 0 13 (dk_at dksX8_isDigit_0 3 rfl rfl)
theorem dX8_isDigit_6 : decode cX8_isDigit 6 = .ok (.iload_n 0, 1) := dk_26 (dk_at dksX8_isDigit_0 6 rfl rfl)
theorem dX8_isDigit_7 : decode cX8_isDigit 7 = .ok (.bipush 57, 2) := dk_16 57 (dk_at dksX8_isDigit_0 7 rfl rfl)
theorem dX8_isDigit_9 : decode cX8_isDigit 9 = .ok (.if_icmp .gt 7, 3) := dk_163 0 7 (dk_at dksX8_isDigit_0 9 rfl rfl)
theorem dX8_isDigit_12 : decode cX8_isDigit 12 = .ok (.iconst 1, 1) := dk_4 (dk_at dksX8_isDigit_0 12 rfl rfl)
theorem dX8_isDigit_13 : decode cX8_isDigit 13 = .ok (.goto 4, 3) := dk_167 0 4 (dk_at dksX8_isDigit_0 13 rfl rfl)
theorem dX8_isDigit_16 : decode cX8_isDigit 16 = .ok (.iconst 0, 1) := dk_3 (dk_at dksX8_isDigit_0 16 rfl rfl)
theorem dX8_isDigit_17 : decode cX8_isDigit 17 = .ok (.ireturn, 1) := dk_172 (dk_at dksX8_isDigit_0 17 rfl rfl)
abbrev cX8_isMark : ByteArray := prog_20_method_12_code
def yX8_isMark : MethodName := ⟨RX8, "isMark", "(I)Z"⟩
def dkwX8_isMark_2 : List UInt8 := [26, 16, 61, 160, 0, 7, 4, 167, 0, 4, 3, 172]
abbrev dktX8_isMark_2 : List UInt8 := dkwX8_isMark_2 ++ []
def dkwX8_isMark_1 : List UInt8 := [26, 16, 45, 159, 0, 27, 26, 16, 42, 159, 0, 21, 26, 16, 47, 159, 0, 15, 26, 16, 60, 159, 0, 9]
abbrev dktX8_isMark_1 : List UInt8 := dkwX8_isMark_1 ++ dktX8_isMark_2
def dkwX8_isMark_0 : List UInt8 := [26, 16, 59, 159, 0, 51, 26, 16, 40, 159, 0, 45, 26, 16, 41, 159, 0, 39, 26, 16, 43, 159, 0, 33]
abbrev dktX8_isMark_0 : List UInt8 := dkwX8_isMark_0 ++ dktX8_isMark_1
theorem dksX8_isMark_0 : cX8_isMark.data.toList.drop 0 = dktX8_isMark_0 := by decide +kernel
theorem dksX8_isMark_1 : cX8_isMark.data.toList.drop 24 = dktX8_isMark_1 := dk_seg dksX8_isMark_0 24 rfl rfl
theorem dksX8_isMark_2 : cX8_isMark.data.toList.drop 48 = dktX8_isMark_2 := dk_seg dksX8_isMark_1 24 rfl rfl
theorem dX8_isMark_0 : decode cX8_isMark 0 = .ok (.iload_n 0, 1) := dk_26 (dk_at dksX8_isMark_0 0 rfl rfl)
theorem dX8_isMark_1 : decode cX8_isMark 1 = .ok (.bipush 59, 2) := dk_16 59 (dk_at dksX8_isMark_0 1 rfl rfl)
theorem dX8_isMark_3 : decode cX8_isMark 3 = .ok (.if_icmp .eq 51, 3) := dk_159 0 51 (dk_at dksX8_isMark_0 3 rfl rfl)
theorem dX8_isMark_6 : decode cX8_isMark 6 = .ok (.iload_n 0, 1) := dk_26 (dk_at dksX8_isMark_0 6 rfl rfl)
theorem dX8_isMark_7 : decode cX8_isMark 7 = .ok (.bipush 40, 2) := dk_16 40 (dk_at dksX8_isMark_0 7 rfl rfl)
theorem dX8_isMark_9 : decode cX8_isMark 9 = .ok (.if_icmp .eq 45, 3) := dk_159 0 45 (dk_at dksX8_isMark_0 9 rfl rfl)
theorem dX8_isMark_12 : decode cX8_isMark 12 = .ok (.iload_n 0, 1) := dk_26 (dk_at dksX8_isMark_0 12 rfl rfl)
theorem dX8_isMark_13 : decode cX8_isMark 13 = .ok (.bipush 41, 2) := dk_16 41 (dk_at dksX8_isMark_0 13 rfl rfl)
theorem dX8_isMark_15 : decode cX8_isMark 15 = .ok (.if_icmp .eq 39, 3) := dk_159 0 39 (dk_at dksX8_isMark_0 15 rfl rfl)
theorem dX8_isMark_18 : decode cX8_isMark 18 = .ok (.iload_n 0, 1) := dk_26 (dk_at dksX8_isMark_0 18 rfl rfl)
theorem dX8_isMark_19 : decode cX8_isMark 19 = .ok (.bipush 43, 2) := dk_16 43 (dk_at dksX8_isMark_0 19 rfl rfl)
theorem dX8_isMark_21 : decode cX8_isMark 21 = .ok (.if_icmp .eq 33, 3) := dk_159 0 33 (dk_at dksX8_isMark_0 21 rfl rfl)
theorem dX8_isMark_24 : decode cX8_isMark 24 = .ok (.iload_n 0, 1) := dk_26 (dk_at dksX8_isMark_1 0 rfl rfl)
theorem dX8_isMark_25 : decode cX8_isMark 25 = .ok (.bipush 45, 2) := dk_16 45 (dk_at dksX8_isMark_1 1 rfl rfl)
theorem dX8_isMark_27 : decode cX8_isMark 27 = .ok (.if_icmp .eq 27, 3) := dk_159 0 27 (dk_at dksX8_isMark_1 3 rfl rfl)
theorem dX8_isMark_30 : decode cX8_isMark 30 = .ok (.iload_n 0, 1) := dk_26 (dk_at dksX8_isMark_1 6 rfl rfl)
theorem dX8_isMark_31 : decode cX8_isMark 31 = .ok (.bipush 42, 2) := dk_16 42 (dk_at dksX8_isMark_1 7 rfl rfl)
theorem dX8_isMark_33 : decode cX8_isMark 33 = .ok (.if_icmp .eq 21, 3) := dk_159 0 21 (dk_at dksX8_isMark_1 9 rfl rfl)
theorem dX8_isMark_36 : decode cX8_isMark 36 = .ok (.iload_n 0, 1) := dk_26 (dk_at dksX8_isMark_1 12 rfl rfl)
theorem dX8_isMark_37 : decode cX8_isMark 37 = .ok (.bipush 47, 2) := dk_16 47 (dk_at dksX8_isMark_1 13 rfl rfl)
theorem dX8_isMark_39 : decode cX8_isMark 39 = .ok (.if_icmp .eq 15, 3) := dk_159 0 15 (dk_at dksX8_isMark_1 15 rfl rfl)
theorem dX8_isMark_42 : decode cX8_isMark 42 = .ok (.iload_n 0, 1) := dk_26 (dk_at dksX8_isMark_1 18 rfl rfl)
theorem dX8_isMark_43 : decode cX8_isMark 43 = .ok (.bipush 60, 2) := dk_16 60 (dk_at dksX8_isMark_1 19 rfl rfl)
theorem dX8_isMark_45 : decode cX8_isMark 45 = .ok (.if_icmp .eq 9, 3) := dk_159 0 9 (dk_at dksX8_isMark_1 21 rfl rfl)
theorem dX8_isMark_48 : decode cX8_isMark 48 = .ok (.iload_n 0, 1) := dk_26 (dk_at dksX8_isMark_2 0 rfl rfl)
theorem dX8_isMark_49 : decode cX8_isMark 49 = .ok (.bipush 61, 2) := dk_16 61 (dk_at dksX8_isMark_2 1 rfl rfl)
theorem dX8_isMark_51 : decode cX8_isMark 51 = .ok (.if_icmp .ne 7, 3) := dk_160 0 7 (dk_at dksX8_isMark_2 3 rfl rfl)
theorem dX8_isMark_54 : decode cX8_isMark 54 = .ok (.iconst 1, 1) := dk_4 (dk_at dksX8_isMark_2 6 rfl rfl)
theorem dX8_isMark_55 : decode cX8_isMark 55 = .ok (.goto 4, 3) := dk_167 0 4 (dk_at dksX8_isMark_2 7 rfl rfl)
theorem dX8_isMark_58 : decode cX8_isMark 58 = .ok (.iconst 0, 1) := dk_3 (dk_at dksX8_isMark_2 10 rfl rfl)
theorem dX8_isMark_59 : decode cX8_isMark 59 = .ok (.ireturn, 1) := dk_172 (dk_at dksX8_isMark_2 11 rfl rfl)
abbrev cX8_readLine : ByteArray := prog_20_method_35_code
def yX8_readLine : MethodName := ⟨RX8, "readLine", "(I)I"⟩
def dkwX8_readLine_7 : List UInt8 := [182, 0, 240, 27, 28, 128, 172]
abbrev dktX8_readLine_7 : List UInt8 := dkwX8_readLine_7 ++ []
def dkwX8_readLine_6 : List UInt8 := [19, 1, 37, 182, 0, 213, 153, 0, 10, 42, 182, 1, 39, 167, 0, 8, 42, 4, 182, 0, 220, 42, 16, 59]
abbrev dktX8_readLine_6 : List UInt8 := dkwX8_readLine_6 ++ dktX8_readLine_7
def dkwX8_readLine_5 : List UInt8 := [182, 1, 30, 167, 0, 42, 42, 19, 1, 33, 182, 0, 213, 153, 0, 10, 42, 182, 1, 34, 167, 0, 25, 42]
abbrev dktX8_readLine_5 : List UInt8 := dkwX8_readLine_5 ++ dktX8_readLine_6
def dkwX8_readLine_4 : List UInt8 := [29, 2, 159, 0, 11, 42, 29, 182, 1, 27, 167, 0, 58, 42, 18, 27, 182, 0, 213, 153, 0, 10, 42]
abbrev dktX8_readLine_4 : List UInt8 := dkwX8_readLine_4 ++ dktX8_readLine_5
def dkwX8_readLine_3 : List UInt8 := [180, 0, 34, 16, 10, 42, 4, 16, 40, 182, 0, 230, 79, 167, 0, 79, 42, 3, 182, 0, 243, 167, 0, 71]
abbrev dktX8_readLine_3 : List UInt8 := dkwX8_readLine_3 ++ dktX8_readLine_4
def dkwX8_readLine_2 : List UInt8 := [182, 0, 220, 28, 158, 0, 44, 42, 180, 0, 199, 154, 0, 7, 42, 182, 0, 224, 28, 4, 160, 0, 20, 42]
abbrev dktX8_readLine_2 : List UInt8 := dkwX8_readLine_2 ++ dktX8_readLine_3
def dkwX8_readLine_1 : List UInt8 := [5, 167, 0, 4, 3, 61, 42, 42, 180, 0, 17, 182, 0, 236, 62, 28, 27, 126, 153, 0, 8, 42, 8]
abbrev dktX8_readLine_1 : List UInt8 := dkwX8_readLine_1 ++ dktX8_readLine_2
def dkwX8_readLine_0 : List UInt8 := [42, 19, 1, 23, 182, 0, 213, 153, 0, 7, 4, 167, 0, 18, 42, 19, 1, 25, 182, 0, 213, 153, 0, 7]
abbrev dktX8_readLine_0 : List UInt8 := dkwX8_readLine_0 ++ dktX8_readLine_1
theorem dksX8_readLine_0 : cX8_readLine.data.toList.drop 0 = dktX8_readLine_0 := by decide +kernel
theorem dksX8_readLine_1 : cX8_readLine.data.toList.drop 24 = dktX8_readLine_1 := dk_seg dksX8_readLine_0 24 rfl rfl
theorem dksX8_readLine_2 : cX8_readLine.data.toList.drop 47 = dktX8_readLine_2 := dk_seg dksX8_readLine_1 23 rfl rfl
theorem dksX8_readLine_3 : cX8_readLine.data.toList.drop 71 = dktX8_readLine_3 := dk_seg dksX8_readLine_2 24 rfl rfl
theorem dksX8_readLine_4 : cX8_readLine.data.toList.drop 95 = dktX8_readLine_4 := dk_seg dksX8_readLine_3 24 rfl rfl
theorem dksX8_readLine_5 : cX8_readLine.data.toList.drop 118 = dktX8_readLine_5 := dk_seg dksX8_readLine_4 23 rfl rfl
theorem dksX8_readLine_6 : cX8_readLine.data.toList.drop 142 = dktX8_readLine_6 := dk_seg dksX8_readLine_5 24 rfl rfl
theorem dksX8_readLine_7 : cX8_readLine.data.toList.drop 166 = dktX8_readLine_7 := dk_seg dksX8_readLine_6 24 rfl rfl
theorem dX8_readLine_0 : decode cX8_readLine 0 = .ok (.aload_n 0, 1) := dk_42 (dk_at dksX8_readLine_0 0 rfl rfl)
theorem dX8_readLine_1 : decode cX8_readLine 1 = .ok (.ldc_w 279, 3) := dk_19 1 23 (dk_at dksX8_readLine_0 1 rfl rfl)
theorem dX8_readLine_4 : decode cX8_readLine 4 = .ok (.invokevirtual 213, 3) := dk_182 0 213 (dk_at dksX8_readLine_0 4 rfl rfl)
theorem dX8_readLine_7 : decode cX8_readLine 7 = .ok (.ifCond .eq 7, 3) := dk_153 0 7 (dk_at dksX8_readLine_0 7 rfl rfl)
theorem dX8_readLine_10 : decode cX8_readLine 10 = .ok (.iconst 1, 1) := dk_4 (dk_at dksX8_readLine_0 10 rfl rfl)
theorem dX8_readLine_11 : decode cX8_readLine 11 = .ok (.goto 18, 3) := dk_167 0 18 (dk_at dksX8_readLine_0 11 rfl rfl)
theorem dX8_readLine_14 : decode cX8_readLine 14 = .ok (.aload_n 0, 1) := dk_42 (dk_at dksX8_readLine_0 14 rfl rfl)
theorem dX8_readLine_15 : decode cX8_readLine 15 = .ok (.ldc_w 281, 3) := dk_19 1 25 (dk_at dksX8_readLine_0 15 rfl rfl)
theorem dX8_readLine_18 : decode cX8_readLine 18 = .ok (.invokevirtual 213, 3) := dk_182 0 213 (dk_at dksX8_readLine_0 18 rfl rfl)
theorem dX8_readLine_21 : decode cX8_readLine 21 = .ok (.ifCond .eq 7, 3) := dk_153 0 7 (dk_at dksX8_readLine_0 21 rfl rfl)
theorem dX8_readLine_24 : decode cX8_readLine 24 = .ok (.iconst 2, 1) := dk_5 (dk_at dksX8_readLine_1 0 rfl rfl)
theorem dX8_readLine_25 : decode cX8_readLine 25 = .ok (.goto 4, 3) := dk_167 0 4 (dk_at dksX8_readLine_1 1 rfl rfl)
theorem dX8_readLine_28 : decode cX8_readLine 28 = .ok (.iconst 0, 1) := dk_3 (dk_at dksX8_readLine_1 4 rfl rfl)
theorem dX8_readLine_29 : decode cX8_readLine 29 = .ok (.istore_n 2, 1) := dk_61 (dk_at dksX8_readLine_1 5 rfl rfl)
theorem dX8_readLine_30 : decode cX8_readLine 30 = .ok (.aload_n 0, 1) := dk_42 (dk_at dksX8_readLine_1 6 rfl rfl)
theorem dX8_readLine_31 : decode cX8_readLine 31 = .ok (.aload_n 0, 1) := dk_42 (dk_at dksX8_readLine_1 7 rfl rfl)
theorem dX8_readLine_32 : decode cX8_readLine 32 = .ok (.getfield 17, 3) := dk_180 0 17 (dk_at dksX8_readLine_1 8 rfl rfl)
theorem dX8_readLine_35 : decode cX8_readLine 35 = .ok (.invokevirtual 236, 3) := dk_182 0 236 (dk_at dksX8_readLine_1 11 rfl rfl)
theorem dX8_readLine_38 : decode cX8_readLine 38 = .ok (.istore_n 3, 1) := dk_62 (dk_at dksX8_readLine_1 14 rfl rfl)
theorem dX8_readLine_39 : decode cX8_readLine 39 = .ok (.iload_n 2, 1) := dk_28 (dk_at dksX8_readLine_1 15 rfl rfl)
theorem dX8_readLine_40 : decode cX8_readLine 40 = .ok (.iload_n 1, 1) := dk_27 (dk_at dksX8_readLine_1 16 rfl rfl)
theorem dX8_readLine_41 : decode cX8_readLine 41 = .ok (.iand, 1) := dk_126 (dk_at dksX8_readLine_1 17 rfl rfl)
theorem dX8_readLine_42 : decode cX8_readLine 42 = .ok (.ifCond .eq 8, 3) := dk_153 0 8 (dk_at dksX8_readLine_1 18 rfl rfl)
theorem dX8_readLine_45 : decode cX8_readLine 45 = .ok (.aload_n 0, 1) := dk_42 (dk_at dksX8_readLine_1 21 rfl rfl)
theorem dX8_readLine_46 : decode cX8_readLine 46 = .ok (.iconst 5, 1) := dk_8 (dk_at dksX8_readLine_1 22 rfl rfl)
theorem dX8_readLine_47 : decode cX8_readLine 47 = .ok (.invokevirtual 220, 3) := dk_182 0 220 (dk_at dksX8_readLine_2 0 rfl rfl)
theorem dX8_readLine_50 : decode cX8_readLine 50 = .ok (.iload_n 2, 1) := dk_28 (dk_at dksX8_readLine_2 3 rfl rfl)
theorem dX8_readLine_51 : decode cX8_readLine 51 = .ok (.ifCond .le 44, 3) := dk_158 0 44 (dk_at dksX8_readLine_2 4 rfl rfl)
theorem dX8_readLine_54 : decode cX8_readLine 54 = .ok (.aload_n 0, 1) := dk_42 (dk_at dksX8_readLine_2 7 rfl rfl)
theorem dX8_readLine_55 : decode cX8_readLine 55 = .ok (.getfield 199, 3) := dk_180 0 199 (dk_at dksX8_readLine_2 8 rfl rfl)
theorem dX8_readLine_58 : decode cX8_readLine 58 = .ok (.ifCond .ne 7, 3) := dk_154 0 7 (dk_at dksX8_readLine_2 11 rfl rfl)
theorem dX8_readLine_61 : decode cX8_readLine 61 = .ok (.aload_n 0, 1) := dk_42 (dk_at dksX8_readLine_2 14 rfl rfl)
theorem dX8_readLine_62 : decode cX8_readLine 62 = .ok (.invokevirtual 224, 3) := dk_182 0 224 (dk_at dksX8_readLine_2 15 rfl rfl)
theorem dX8_readLine_65 : decode cX8_readLine 65 = .ok (.iload_n 2, 1) := dk_28 (dk_at dksX8_readLine_2 18 rfl rfl)
theorem dX8_readLine_66 : decode cX8_readLine 66 = .ok (.iconst 1, 1) := dk_4 (dk_at dksX8_readLine_2 19 rfl rfl)
theorem dX8_readLine_67 : decode cX8_readLine 67 = .ok (.if_icmp .ne 20, 3) := dk_160 0 20 (dk_at dksX8_readLine_2 20 rfl rfl)
theorem dX8_readLine_70 : decode cX8_readLine 70 = .ok (.aload_n 0, 1) := dk_42 (dk_at dksX8_readLine_2 23 rfl rfl)
theorem dX8_readLine_71 : decode cX8_readLine 71 = .ok (.getfield 34, 3) := dk_180 0 34 (dk_at dksX8_readLine_3 0 rfl rfl)
theorem dX8_readLine_74 : decode cX8_readLine 74 = .ok (.bipush 10, 2) := dk_16 10 (dk_at dksX8_readLine_3 3 rfl rfl)
theorem dX8_readLine_76 : decode cX8_readLine 76 = .ok (.aload_n 0, 1) := dk_42 (dk_at dksX8_readLine_3 5 rfl rfl)
theorem dX8_readLine_77 : decode cX8_readLine 77 = .ok (.iconst 1, 1) := dk_4 (dk_at dksX8_readLine_3 6 rfl rfl)
theorem dX8_readLine_78 : decode cX8_readLine 78 = .ok (.bipush 40, 2) := dk_16 40 (dk_at dksX8_readLine_3 7 rfl rfl)
theorem dX8_readLine_80 : decode cX8_readLine 80 = .ok (.invokevirtual 230, 3) := dk_182 0 230 (dk_at dksX8_readLine_3 9 rfl rfl)
theorem dX8_readLine_83 : decode cX8_readLine 83 = .ok (.iastore, 1) := dk_79 (dk_at dksX8_readLine_3 12 rfl rfl)
theorem dX8_readLine_84 : decode cX8_readLine 84 = .ok (.goto 79, 3) := dk_167 0 79 (dk_at dksX8_readLine_3 13 rfl rfl)
theorem dX8_readLine_87 : decode cX8_readLine 87 = .ok (.aload_n 0, 1) := dk_42 (dk_at dksX8_readLine_3 16 rfl rfl)
theorem dX8_readLine_88 : decode cX8_readLine 88 = .ok (.iconst 0, 1) := dk_3 (dk_at dksX8_readLine_3 17 rfl rfl)
theorem dX8_readLine_89 : decode cX8_readLine 89 = .ok (.invokevirtual 243, 3) := dk_182 0 243 (dk_at dksX8_readLine_3 18 rfl rfl)
theorem dX8_readLine_92 : decode cX8_readLine 92 = .ok (.goto 71, 3) := dk_167 0 71 (dk_at dksX8_readLine_3 21 rfl rfl)
theorem dX8_readLine_95 : decode cX8_readLine 95 = .ok (.iload_n 3, 1) := dk_29 (dk_at dksX8_readLine_4 0 rfl rfl)
theorem dX8_readLine_96 : decode cX8_readLine 96 = .ok (.iconst (-1), 1) := dk_2 (dk_at dksX8_readLine_4 1 rfl rfl)
theorem dX8_readLine_97 : decode cX8_readLine 97 = .ok (.if_icmp .eq 11, 3) := dk_159 0 11 (dk_at dksX8_readLine_4 2 rfl rfl)
theorem dX8_readLine_100 : decode cX8_readLine 100 = .ok (.aload_n 0, 1) := dk_42 (dk_at dksX8_readLine_4 5 rfl rfl)
theorem dX8_readLine_101 : decode cX8_readLine 101 = .ok (.iload_n 3, 1) := dk_29 (dk_at dksX8_readLine_4 6 rfl rfl)
theorem dX8_readLine_102 : decode cX8_readLine 102 = .ok (.invokevirtual 283, 3) := dk_182 1 27 (dk_at dksX8_readLine_4 7 rfl rfl)
theorem dX8_readLine_105 : decode cX8_readLine 105 = .ok (.goto 58, 3) := dk_167 0 58 (dk_at dksX8_readLine_4 10 rfl rfl)
theorem dX8_readLine_108 : decode cX8_readLine 108 = .ok (.aload_n 0, 1) := dk_42 (dk_at dksX8_readLine_4 13 rfl rfl)
theorem dX8_readLine_109 : decode cX8_readLine 109 = .ok (.ldc 27, 2) := dk_18 27 (dk_at dksX8_readLine_4 14 rfl rfl)
theorem dX8_readLine_111 : decode cX8_readLine 111 = .ok (.invokevirtual 213, 3) := dk_182 0 213 (dk_at dksX8_readLine_4 16 rfl rfl)
theorem dX8_readLine_114 : decode cX8_readLine 114 = .ok (.ifCond .eq 10, 3) := dk_153 0 10 (dk_at dksX8_readLine_4 19 rfl rfl)
theorem dX8_readLine_117 : decode cX8_readLine 117 = .ok (.aload_n 0, 1) := dk_42 (dk_at dksX8_readLine_4 22 rfl rfl)
theorem dX8_readLine_118 : decode cX8_readLine 118 = .ok (.invokevirtual 286, 3) := dk_182 1 30 (dk_at dksX8_readLine_5 0 rfl rfl)
theorem dX8_readLine_121 : decode cX8_readLine 121 = .ok (.goto 42, 3) := dk_167 0 42 (dk_at dksX8_readLine_5 3 rfl rfl)
theorem dX8_readLine_124 : decode cX8_readLine 124 = .ok (.aload_n 0, 1) := dk_42 (dk_at dksX8_readLine_5 6 rfl rfl)
theorem dX8_readLine_125 : decode cX8_readLine 125 = .ok (.ldc_w 289, 3) := dk_19 1 33 (dk_at dksX8_readLine_5 7 rfl rfl)
theorem dX8_readLine_128 : decode cX8_readLine 128 = .ok (.invokevirtual 213, 3) := dk_182 0 213 (dk_at dksX8_readLine_5 10 rfl rfl)
theorem dX8_readLine_131 : decode cX8_readLine 131 = .ok (.ifCond .eq 10, 3) := dk_153 0 10 (dk_at dksX8_readLine_5 13 rfl rfl)
theorem dX8_readLine_134 : decode cX8_readLine 134 = .ok (.aload_n 0, 1) := dk_42 (dk_at dksX8_readLine_5 16 rfl rfl)
theorem dX8_readLine_135 : decode cX8_readLine 135 = .ok (.invokevirtual 290, 3) := dk_182 1 34 (dk_at dksX8_readLine_5 17 rfl rfl)
theorem dX8_readLine_138 : decode cX8_readLine 138 = .ok (.goto 25, 3) := dk_167 0 25 (dk_at dksX8_readLine_5 20 rfl rfl)
theorem dX8_readLine_141 : decode cX8_readLine 141 = .ok (.aload_n 0, 1) := dk_42 (dk_at dksX8_readLine_5 23 rfl rfl)
theorem dX8_readLine_142 : decode cX8_readLine 142 = .ok (.ldc_w 293, 3) := dk_19 1 37 (dk_at dksX8_readLine_6 0 rfl rfl)
theorem dX8_readLine_145 : decode cX8_readLine 145 = .ok (.invokevirtual 213, 3) := dk_182 0 213 (dk_at dksX8_readLine_6 3 rfl rfl)
theorem dX8_readLine_148 : decode cX8_readLine 148 = .ok (.ifCond .eq 10, 3) := dk_153 0 10 (dk_at dksX8_readLine_6 6 rfl rfl)
theorem dX8_readLine_151 : decode cX8_readLine 151 = .ok (.aload_n 0, 1) := dk_42 (dk_at dksX8_readLine_6 9 rfl rfl)
theorem dX8_readLine_152 : decode cX8_readLine 152 = .ok (.invokevirtual 295, 3) := dk_182 1 39 (dk_at dksX8_readLine_6 10 rfl rfl)
theorem dX8_readLine_155 : decode cX8_readLine 155 = .ok (.goto 8, 3) := dk_167 0 8 (dk_at dksX8_readLine_6 13 rfl rfl)
theorem dX8_readLine_158 : decode cX8_readLine 158 = .ok (.aload_n 0, 1) := dk_42 (dk_at dksX8_readLine_6 16 rfl rfl)
theorem dX8_readLine_159 : decode cX8_readLine 159 = .ok (.iconst 1, 1) := dk_4 (dk_at dksX8_readLine_6 17 rfl rfl)
theorem dX8_readLine_160 : decode cX8_readLine 160 = .ok (.invokevirtual 220, 3) := dk_182 0 220 (dk_at dksX8_readLine_6 18 rfl rfl)
theorem dX8_readLine_163 : decode cX8_readLine 163 = .ok (.aload_n 0, 1) := dk_42 (dk_at dksX8_readLine_6 21 rfl rfl)
theorem dX8_readLine_164 : decode cX8_readLine 164 = .ok (.bipush 59, 2) := dk_16 59 (dk_at dksX8_readLine_6 22 rfl rfl)
theorem dX8_readLine_166 : decode cX8_readLine 166 = .ok (.invokevirtual 240, 3) := dk_182 0 240 (dk_at dksX8_readLine_7 0 rfl rfl)
theorem dX8_readLine_169 : decode cX8_readLine 169 = .ok (.iload_n 1, 1) := dk_27 (dk_at dksX8_readLine_7 3 rfl rfl)
theorem dX8_readLine_170 : decode cX8_readLine 170 = .ok (.iload_n 2, 1) := dk_28 (dk_at dksX8_readLine_7 4 rfl rfl)
theorem dX8_readLine_171 : decode cX8_readLine 171 = .ok (.ior, 1) := dk_128 (dk_at dksX8_readLine_7 5 rfl rfl)
theorem dX8_readLine_172 : decode cX8_readLine 172 = .ok (.ireturn, 1) := dk_172 (dk_at dksX8_readLine_7 6 rfl rfl)
abbrev cX8_is : ByteArray := prog_20_method_15_code
def yX8_is : MethodName := ⟨RX8, "is", "(Ljava/lang/String;)Z"⟩
def dkwX8_is_3 : List UInt8 := [167, 0, 4, 3, 61, 132, 3, 1, 167, 255, 216, 28, 172]
abbrev dktX8_is_3 : List UInt8 := dkwX8_is_3 ++ []
def dkwX8_is_2 : List UInt8 := [162, 0, 34, 43, 29, 182, 0, 209, 42, 180, 0, 63, 42, 180, 0, 170, 29, 96, 46, 160, 0, 7, 4]
abbrev dktX8_is_2 : List UInt8 := dkwX8_is_2 ++ dktX8_is_3
def dkwX8_is_1 : List UInt8 := [180, 0, 170, 100, 160, 0, 7, 4, 167, 0, 4, 3, 61, 3, 62, 28, 153, 0, 42, 29, 43, 182, 0, 205]
abbrev dktX8_is_1 : List UInt8 := dkwX8_is_1 ++ dktX8_is_2
def dkwX8_is_0 : List UInt8 := [42, 180, 0, 199, 154, 0, 31, 42, 180, 0, 173, 4, 160, 0, 23, 43, 182, 0, 205, 42, 180, 0, 196, 42]
abbrev dktX8_is_0 : List UInt8 := dkwX8_is_0 ++ dktX8_is_1
theorem dksX8_is_0 : cX8_is.data.toList.drop 0 = dktX8_is_0 := by decide +kernel
theorem dksX8_is_1 : cX8_is.data.toList.drop 24 = dktX8_is_1 := dk_seg dksX8_is_0 24 rfl rfl
theorem dksX8_is_2 : cX8_is.data.toList.drop 48 = dktX8_is_2 := dk_seg dksX8_is_1 24 rfl rfl
theorem dksX8_is_3 : cX8_is.data.toList.drop 71 = dktX8_is_3 := dk_seg dksX8_is_2 23 rfl rfl
theorem dX8_is_0 : decode cX8_is 0 = .ok (.aload_n 0, 1) := dk_42 (dk_at dksX8_is_0 0 rfl rfl)
theorem dX8_is_1 : decode cX8_is 1 = .ok (.getfield 199, 3) := dk_180 0 199 (dk_at dksX8_is_0 1 rfl rfl)
theorem dX8_is_4 : decode cX8_is 4 = .ok (.ifCond .ne 31, 3) := dk_154 0 31 (dk_at dksX8_is_0 4 rfl rfl)
theorem dX8_is_7 : decode cX8_is 7 = .ok (.aload_n 0, 1) := dk_42 (dk_at dksX8_is_0 7 rfl rfl)
theorem dX8_is_8 : decode cX8_is 8 = .ok (.getfield 173, 3) := dk_180 0 173 (dk_at dksX8_is_0 8 rfl rfl)
theorem dX8_is_11 : decode cX8_is 11 = .ok (.iconst 1, 1) := dk_4 (dk_at dksX8_is_0 11 rfl rfl)
theorem dX8_is_12 : decode cX8_is 12 = .ok (.if_icmp .ne 23, 3) := dk_160 0 23 (dk_at dksX8_is_0 12 rfl rfl)
theorem dX8_is_15 : decode cX8_is 15 = .ok (.aload_n 1, 1) := dk_43 (dk_at dksX8_is_0 15 rfl rfl)
theorem dX8_is_16 : decode cX8_is 16 = .ok (.invokevirtual 205, 3) := dk_182 0 205 (dk_at dksX8_is_0 16 rfl rfl)
theorem dX8_is_19 : decode cX8_is 19 = .ok (.aload_n 0, 1) := dk_42 (dk_at dksX8_is_0 19 rfl rfl)
theorem dX8_is_20 : decode cX8_is 20 = .ok (.getfield 196, 3) := dk_180 0 196 (dk_at dksX8_is_0 20 rfl rfl)
theorem dX8_is_23 : decode cX8_is 23 = .ok (.aload_n 0, 1) := dk_42 (dk_at dksX8_is_0 23 rfl rfl)
theorem dX8_is_24 : decode cX8_is 24 = .ok (.getfield 170, 3) := dk_180 0 170 (dk_at dksX8_is_1 0 rfl rfl)
theorem dX8_is_27 : decode cX8_is 27 = .ok (.isub, 1) := dk_100 (dk_at dksX8_is_1 3 rfl rfl)
theorem dX8_is_28 : decode cX8_is 28 = .ok (.if_icmp .ne 7, 3) := dk_160 0 7 (dk_at dksX8_is_1 4 rfl rfl)
theorem dX8_is_31 : decode cX8_is 31 = .ok (.iconst 1, 1) := dk_4 (dk_at dksX8_is_1 7 rfl rfl)
theorem dX8_is_32 : decode cX8_is 32 = .ok (.goto 4, 3) := dk_167 0 4 (dk_at dksX8_is_1 8 rfl rfl)
theorem dX8_is_35 : decode cX8_is 35 = .ok (.iconst 0, 1) := dk_3 (dk_at dksX8_is_1 11 rfl rfl)
theorem dX8_is_36 : decode cX8_is 36 = .ok (.istore_n 2, 1) := dk_61 (dk_at dksX8_is_1 12 rfl rfl)
theorem dX8_is_37 : decode cX8_is 37 = .ok (.iconst 0, 1) := dk_3 (dk_at dksX8_is_1 13 rfl rfl)
theorem dX8_is_38 : decode cX8_is 38 = .ok (.istore_n 3, 1) := dk_62 (dk_at dksX8_is_1 14 rfl rfl)
theorem dX8_is_39 : decode cX8_is 39 = .ok (.iload_n 2, 1) := dk_28 (dk_at dksX8_is_1 15 rfl rfl)
theorem dX8_is_40 : decode cX8_is 40 = .ok (.ifCond .eq 42, 3) := dk_153 0 42 (dk_at dksX8_is_1 16 rfl rfl)
theorem dX8_is_43 : decode cX8_is 43 = .ok (.iload_n 3, 1) := dk_29 (dk_at dksX8_is_1 19 rfl rfl)
theorem dX8_is_44 : decode cX8_is 44 = .ok (.aload_n 1, 1) := dk_43 (dk_at dksX8_is_1 20 rfl rfl)
theorem dX8_is_45 : decode cX8_is 45 = .ok (.invokevirtual 205, 3) := dk_182 0 205 (dk_at dksX8_is_1 21 rfl rfl)
theorem dX8_is_48 : decode cX8_is 48 = .ok (.if_icmp .ge 34, 3) := dk_162 0 34 (dk_at dksX8_is_2 0 rfl rfl)
theorem dX8_is_51 : decode cX8_is 51 = .ok (.aload_n 1, 1) := dk_43 (dk_at dksX8_is_2 3 rfl rfl)
theorem dX8_is_52 : decode cX8_is 52 = .ok (.iload_n 3, 1) := dk_29 (dk_at dksX8_is_2 4 rfl rfl)
theorem dX8_is_53 : decode cX8_is 53 = .ok (.invokevirtual 209, 3) := dk_182 0 209 (dk_at dksX8_is_2 5 rfl rfl)
theorem dX8_is_56 : decode cX8_is 56 = .ok (.aload_n 0, 1) := dk_42 (dk_at dksX8_is_2 8 rfl rfl)
theorem dX8_is_57 : decode cX8_is 57 = .ok (.getfield 63, 3) := dk_180 0 63 (dk_at dksX8_is_2 9 rfl rfl)
theorem dX8_is_60 : decode cX8_is 60 = .ok (.aload_n 0, 1) := dk_42 (dk_at dksX8_is_2 12 rfl rfl)
theorem dX8_is_61 : decode cX8_is 61 = .ok (.getfield 170, 3) := dk_180 0 170 (dk_at dksX8_is_2 13 rfl rfl)
theorem dX8_is_64 : decode cX8_is 64 = .ok (.iload_n 3, 1) := dk_29 (dk_at dksX8_is_2 16 rfl rfl)
theorem dX8_is_65 : decode cX8_is 65 = .ok (.iadd, 1) := dk_96 (dk_at dksX8_is_2 17 rfl rfl)
theorem dX8_is_66 : decode cX8_is 66 = .ok (.iaload, 1) := dk_46 (dk_at dksX8_is_2 18 rfl rfl)
theorem dX8_is_67 : decode cX8_is 67 = .ok (.if_icmp .ne 7, 3) := dk_160 0 7 (dk_at dksX8_is_2 19 rfl rfl)
theorem dX8_is_70 : decode cX8_is 70 = .ok (.iconst 1, 1) := dk_4 (dk_at dksX8_is_2 22 rfl rfl)
theorem dX8_is_71 : decode cX8_is 71 = .ok (.goto 4, 3) := dk_167 0 4 (dk_at dksX8_is_3 0 rfl rfl)
theorem dX8_is_74 : decode cX8_is 74 = .ok (.iconst 0, 1) := dk_3 (dk_at dksX8_is_3 3 rfl rfl)
theorem dX8_is_75 : decode cX8_is 75 = .ok (.istore_n 2, 1) := dk_61 (dk_at dksX8_is_3 4 rfl rfl)
theorem dX8_is_76 : decode cX8_is 76 = .ok (.iinc 3 1, 3) := dk_132 3 1 (dk_at dksX8_is_3 5 rfl rfl)
theorem dX8_is_79 : decode cX8_is 79 = .ok (.goto (-40), 3) := dk_167 255 216 (dk_at dksX8_is_3 8 rfl rfl)
theorem dX8_is_82 : decode cX8_is 82 = .ok (.iload_n 2, 1) := dk_28 (dk_at dksX8_is_3 11 rfl rfl)
theorem dX8_is_83 : decode cX8_is 83 = .ok (.ireturn, 1) := dk_172 (dk_at dksX8_is_3 12 rfl rfl)
abbrev cX8_which : ByteArray := prog_20_method_16_code
def yX8_which : MethodName := ⟨RX8, "which", "([Ljava/lang/String;)I"⟩
def dkwX8_which_1 : List UInt8 := [167, 255, 235, 2, 172]
abbrev dktX8_which_1 : List UInt8 := dkwX8_which_1 ++ []
def dkwX8_which_0 : List UInt8 := [3, 61, 28, 43, 190, 162, 0, 21, 42, 43, 28, 50, 182, 0, 213, 153, 0, 5, 28, 172, 132, 2, 1]
abbrev dktX8_which_0 : List UInt8 := dkwX8_which_0 ++ dktX8_which_1
theorem dksX8_which_0 : cX8_which.data.toList.drop 0 = dktX8_which_0 := by decide +kernel
theorem dksX8_which_1 : cX8_which.data.toList.drop 23 = dktX8_which_1 := dk_seg dksX8_which_0 23 rfl rfl
theorem dX8_which_0 : decode cX8_which 0 = .ok (.iconst 0, 1) := dk_3 (dk_at dksX8_which_0 0 rfl rfl)
theorem dX8_which_1 : decode cX8_which 1 = .ok (.istore_n 2, 1) := dk_61 (dk_at dksX8_which_0 1 rfl rfl)
theorem dX8_which_2 : decode cX8_which 2 = .ok (.iload_n 2, 1) := dk_28 (dk_at dksX8_which_0 2 rfl rfl)
theorem dX8_which_3 : decode cX8_which 3 = .ok (.aload_n 1, 1) := dk_43 (dk_at dksX8_which_0 3 rfl rfl)
theorem dX8_which_4 : decode cX8_which 4 = .ok (.arraylength, 1) := dk_190 (dk_at dksX8_which_0 4 rfl rfl)
theorem dX8_which_5 : decode cX8_which 5 = .ok (.if_icmp .ge 21, 3) := dk_162 0 21 (dk_at dksX8_which_0 5 rfl rfl)
theorem dX8_which_8 : decode cX8_which 8 = .ok (.aload_n 0, 1) := dk_42 (dk_at dksX8_which_0 8 rfl rfl)
theorem dX8_which_9 : decode cX8_which 9 = .ok (.aload_n 1, 1) := dk_43 (dk_at dksX8_which_0 9 rfl rfl)
theorem dX8_which_10 : decode cX8_which 10 = .ok (.iload_n 2, 1) := dk_28 (dk_at dksX8_which_0 10 rfl rfl)
theorem dX8_which_11 : decode cX8_which 11 = .ok (.aaload, 1) := dk_50 (dk_at dksX8_which_0 11 rfl rfl)
theorem dX8_which_12 : decode cX8_which 12 = .ok (.invokevirtual 213, 3) := dk_182 0 213 (dk_at dksX8_which_0 12 rfl rfl)
theorem dX8_which_15 : decode cX8_which 15 = .ok (.ifCond .eq 5, 3) := dk_153 0 5 (dk_at dksX8_which_0 15 rfl rfl)
theorem dX8_which_18 : decode cX8_which 18 = .ok (.iload_n 2, 1) := dk_28 (dk_at dksX8_which_0 18 rfl rfl)
theorem dX8_which_19 : decode cX8_which 19 = .ok (.ireturn, 1) := dk_172 (dk_at dksX8_which_0 19 rfl rfl)
theorem dX8_which_20 : decode cX8_which 20 = .ok (.iinc 2 1, 3) := dk_132 2 1 (dk_at dksX8_which_0 20 rfl rfl)
theorem dX8_which_23 : decode cX8_which 23 = .ok (.goto (-21), 3) := dk_167 255 235 (dk_at dksX8_which_1 0 rfl rfl)
theorem dX8_which_26 : decode cX8_which 26 = .ok (.iconst (-1), 1) := dk_2 (dk_at dksX8_which_1 3 rfl rfl)
theorem dX8_which_27 : decode cX8_which 27 = .ok (.ireturn, 1) := dk_172 (dk_at dksX8_which_1 4 rfl rfl)
abbrev cX8_wrong : ByteArray := prog_20_method_14_code
def yX8_wrong : MethodName := ⟨RX8, "wrong", "(I)V"⟩
def dkwX8_wrong_0 : List UInt8 := [42, 180, 0, 199, 153, 0, 4, 177, 42, 27, 181, 0, 199, 42, 42, 180, 0, 170, 181, 0, 202, 177]
abbrev dktX8_wrong_0 : List UInt8 := dkwX8_wrong_0 ++ []
theorem dksX8_wrong_0 : cX8_wrong.data.toList.drop 0 = dktX8_wrong_0 := by decide +kernel
theorem dX8_wrong_0 : decode cX8_wrong 0 = .ok (.aload_n 0, 1) := dk_42 (dk_at dksX8_wrong_0 0 rfl rfl)
theorem dX8_wrong_1 : decode cX8_wrong 1 = .ok (.getfield 199, 3) := dk_180 0 199 (dk_at dksX8_wrong_0 1 rfl rfl)
theorem dX8_wrong_4 : decode cX8_wrong 4 = .ok (.ifCond .eq 4, 3) := dk_153 0 4 (dk_at dksX8_wrong_0 4 rfl rfl)
theorem dX8_wrong_7 : decode cX8_wrong 7 = .ok (.return_, 1) := dk_177 (dk_at dksX8_wrong_0 7 rfl rfl)
theorem dX8_wrong_8 : decode cX8_wrong 8 = .ok (.aload_n 0, 1) := dk_42 (dk_at dksX8_wrong_0 8 rfl rfl)
theorem dX8_wrong_9 : decode cX8_wrong 9 = .ok (.iload_n 1, 1) := dk_27 (dk_at dksX8_wrong_0 9 rfl rfl)
theorem dX8_wrong_10 : decode cX8_wrong 10 = .ok (.putfield 199, 3) := dk_181 0 199 (dk_at dksX8_wrong_0 10 rfl rfl)
theorem dX8_wrong_13 : decode cX8_wrong 13 = .ok (.aload_n 0, 1) := dk_42 (dk_at dksX8_wrong_0 13 rfl rfl)
theorem dX8_wrong_14 : decode cX8_wrong 14 = .ok (.aload_n 0, 1) := dk_42 (dk_at dksX8_wrong_0 14 rfl rfl)
theorem dX8_wrong_15 : decode cX8_wrong 15 = .ok (.getfield 170, 3) := dk_180 0 170 (dk_at dksX8_wrong_0 15 rfl rfl)
theorem dX8_wrong_18 : decode cX8_wrong 18 = .ok (.putfield 202, 3) := dk_181 0 202 (dk_at dksX8_wrong_0 18 rfl rfl)
theorem dX8_wrong_21 : decode cX8_wrong 21 = .ok (.return_, 1) := dk_177 (dk_at dksX8_wrong_0 21 rfl rfl)
abbrev cX8_readNumber : ByteArray := prog_20_method_20_code
def yX8_readNumber : MethodName := ⟨RX8, "readNumber", "(II)I"⟩
def dkwX8_readNumber_0 : List UInt8 := [42, 27, 28, 182, 0, 227, 62, 42, 180, 0, 199, 154, 0, 7, 42, 182, 0, 224, 29, 172]
abbrev dktX8_readNumber_0 : List UInt8 := dkwX8_readNumber_0 ++ []
theorem dksX8_readNumber_0 : cX8_readNumber.data.toList.drop 0 = dktX8_readNumber_0 := by decide +kernel
theorem dX8_readNumber_0 : decode cX8_readNumber 0 = .ok (.aload_n 0, 1) := dk_42 (dk_at dksX8_readNumber_0 0 rfl rfl)
theorem dX8_readNumber_1 : decode cX8_readNumber 1 = .ok (.iload_n 1, 1) := dk_27 (dk_at dksX8_readNumber_0 1 rfl rfl)
theorem dX8_readNumber_2 : decode cX8_readNumber 2 = .ok (.iload_n 2, 1) := dk_28 (dk_at dksX8_readNumber_0 2 rfl rfl)
theorem dX8_readNumber_3 : decode cX8_readNumber 3 = .ok (.invokevirtual 227, 3) := dk_182 0 227 (dk_at dksX8_readNumber_0 3 rfl rfl)
theorem dX8_readNumber_6 : decode cX8_readNumber 6 = .ok (.istore_n 3, 1) := dk_62 (dk_at dksX8_readNumber_0 6 rfl rfl)
theorem dX8_readNumber_7 : decode cX8_readNumber 7 = .ok (.aload_n 0, 1) := dk_42 (dk_at dksX8_readNumber_0 7 rfl rfl)
theorem dX8_readNumber_8 : decode cX8_readNumber 8 = .ok (.getfield 199, 3) := dk_180 0 199 (dk_at dksX8_readNumber_0 8 rfl rfl)
theorem dX8_readNumber_11 : decode cX8_readNumber 11 = .ok (.ifCond .ne 7, 3) := dk_154 0 7 (dk_at dksX8_readNumber_0 11 rfl rfl)
theorem dX8_readNumber_14 : decode cX8_readNumber 14 = .ok (.aload_n 0, 1) := dk_42 (dk_at dksX8_readNumber_0 14 rfl rfl)
theorem dX8_readNumber_15 : decode cX8_readNumber 15 = .ok (.invokevirtual 224, 3) := dk_182 0 224 (dk_at dksX8_readNumber_0 15 rfl rfl)
theorem dX8_readNumber_18 : decode cX8_readNumber 18 = .ok (.iload_n 3, 1) := dk_29 (dk_at dksX8_readNumber_0 18 rfl rfl)
theorem dX8_readNumber_19 : decode cX8_readNumber 19 = .ok (.ireturn, 1) := dk_172 (dk_at dksX8_readNumber_0 19 rfl rfl)
abbrev cX8_numberNow : ByteArray := prog_20_method_19_code
def yX8_numberNow : MethodName := ⟨RX8, "numberNow", "(II)I"⟩
def dkwX8_numberNow_3 : List UInt8 := [167, 0, 4, 3, 172]
abbrev dktX8_numberNow_3 : List UInt8 := dkwX8_numberNow_3 ++ []
def dkwX8_numberNow_2 : List UInt8 := [42, 180, 0, 183, 28, 164, 0, 8, 42, 5, 182, 0, 220, 42, 180, 0, 199, 154, 0, 10, 42, 180, 0, 183]
abbrev dktX8_numberNow_2 : List UInt8 := dkwX8_numberNow_2 ++ dktX8_numberNow_3
def dkwX8_numberNow_1 : List UInt8 := [167, 0, 37, 42, 180, 0, 196, 42, 180, 0, 170, 100, 7, 163, 0, 19, 42, 180, 0, 183, 27, 161, 0, 11]
abbrev dktX8_numberNow_1 : List UInt8 := dkwX8_numberNow_1 ++ dktX8_numberNow_2
def dkwX8_numberNow_0 : List UInt8 := [42, 180, 0, 199, 153, 0, 5, 3, 172, 42, 180, 0, 173, 5, 159, 0, 11, 42, 4, 182, 0, 220]
abbrev dktX8_numberNow_0 : List UInt8 := dkwX8_numberNow_0 ++ dktX8_numberNow_1
theorem dksX8_numberNow_0 : cX8_numberNow.data.toList.drop 0 = dktX8_numberNow_0 := by decide +kernel
theorem dksX8_numberNow_1 : cX8_numberNow.data.toList.drop 22 = dktX8_numberNow_1 := dk_seg dksX8_numberNow_0 22 rfl rfl
theorem dksX8_numberNow_2 : cX8_numberNow.data.toList.drop 46 = dktX8_numberNow_2 := dk_seg dksX8_numberNow_1 24 rfl rfl
theorem dksX8_numberNow_3 : cX8_numberNow.data.toList.drop 70 = dktX8_numberNow_3 := dk_seg dksX8_numberNow_2 24 rfl rfl
theorem dX8_numberNow_0 : decode cX8_numberNow 0 = .ok (.aload_n 0, 1) := dk_42 (dk_at dksX8_numberNow_0 0 rfl rfl)
theorem dX8_numberNow_1 : decode cX8_numberNow 1 = .ok (.getfield 199, 3) := dk_180 0 199 (dk_at dksX8_numberNow_0 1 rfl rfl)
theorem dX8_numberNow_4 : decode cX8_numberNow 4 = .ok (.ifCond .eq 5, 3) := dk_153 0 5 (dk_at dksX8_numberNow_0 4 rfl rfl)
theorem dX8_numberNow_7 : decode cX8_numberNow 7 = .ok (.iconst 0, 1) := dk_3 (dk_at dksX8_numberNow_0 7 rfl rfl)
theorem dX8_numberNow_8 : decode cX8_numberNow 8 = .ok (.ireturn, 1) := dk_172 (dk_at dksX8_numberNow_0 8 rfl rfl)
theorem dX8_numberNow_9 : decode cX8_numberNow 9 = .ok (.aload_n 0, 1) := dk_42 (dk_at dksX8_numberNow_0 9 rfl rfl)
theorem dX8_numberNow_10 : decode cX8_numberNow 10 = .ok (.getfield 173, 3) := dk_180 0 173 (dk_at dksX8_numberNow_0 10 rfl rfl)
theorem dX8_numberNow_13 : decode cX8_numberNow 13 = .ok (.iconst 2, 1) := dk_5 (dk_at dksX8_numberNow_0 13 rfl rfl)
theorem dX8_numberNow_14 : decode cX8_numberNow 14 = .ok (.if_icmp .eq 11, 3) := dk_159 0 11 (dk_at dksX8_numberNow_0 14 rfl rfl)
theorem dX8_numberNow_17 : decode cX8_numberNow 17 = .ok (.aload_n 0, 1) := dk_42 (dk_at dksX8_numberNow_0 17 rfl rfl)
theorem dX8_numberNow_18 : decode cX8_numberNow 18 = .ok (.iconst 1, 1) := dk_4 (dk_at dksX8_numberNow_0 18 rfl rfl)
theorem dX8_numberNow_19 : decode cX8_numberNow 19 = .ok (.invokevirtual 220, 3) := dk_182 0 220 (dk_at dksX8_numberNow_0 19 rfl rfl)
theorem dX8_numberNow_22 : decode cX8_numberNow 22 = .ok (.goto 37, 3) := dk_167 0 37 (dk_at dksX8_numberNow_1 0 rfl rfl)
theorem dX8_numberNow_25 : decode cX8_numberNow 25 = .ok (.aload_n 0, 1) := dk_42 (dk_at dksX8_numberNow_1 3 rfl rfl)
theorem dX8_numberNow_26 : decode cX8_numberNow 26 = .ok (.getfield 196, 3) := dk_180 0 196 (dk_at dksX8_numberNow_1 4 rfl rfl)
theorem dX8_numberNow_29 : decode cX8_numberNow 29 = .ok (.aload_n 0, 1) := dk_42 (dk_at dksX8_numberNow_1 7 rfl rfl)
theorem dX8_numberNow_30 : decode cX8_numberNow 30 = .ok (.getfield 170, 3) := dk_180 0 170 (dk_at dksX8_numberNow_1 8 rfl rfl)
theorem dX8_numberNow_33 : decode cX8_numberNow 33 = .ok (.isub, 1) := dk_100 (dk_at dksX8_numberNow_1 11 rfl rfl)
theorem dX8_numberNow_34 : decode cX8_numberNow 34 = .ok (.iconst 4, 1) := dk_7 (dk_at dksX8_numberNow_1 12 rfl rfl)
theorem dX8_numberNow_35 : decode cX8_numberNow 35 = .ok (.if_icmp .gt 19, 3) := dk_163 0 19 (dk_at dksX8_numberNow_1 13 rfl rfl)
theorem dX8_numberNow_38 : decode cX8_numberNow 38 = .ok (.aload_n 0, 1) := dk_42 (dk_at dksX8_numberNow_1 16 rfl rfl)
theorem dX8_numberNow_39 : decode cX8_numberNow 39 = .ok (.getfield 183, 3) := dk_180 0 183 (dk_at dksX8_numberNow_1 17 rfl rfl)
theorem dX8_numberNow_42 : decode cX8_numberNow 42 = .ok (.iload_n 1, 1) := dk_27 (dk_at dksX8_numberNow_1 20 rfl rfl)
theorem dX8_numberNow_43 : decode cX8_numberNow 43 = .ok (.if_icmp .lt 11, 3) := dk_161 0 11 (dk_at dksX8_numberNow_1 21 rfl rfl)
theorem dX8_numberNow_46 : decode cX8_numberNow 46 = .ok (.aload_n 0, 1) := dk_42 (dk_at dksX8_numberNow_2 0 rfl rfl)
theorem dX8_numberNow_47 : decode cX8_numberNow 47 = .ok (.getfield 183, 3) := dk_180 0 183 (dk_at dksX8_numberNow_2 1 rfl rfl)
theorem dX8_numberNow_50 : decode cX8_numberNow 50 = .ok (.iload_n 2, 1) := dk_28 (dk_at dksX8_numberNow_2 4 rfl rfl)
theorem dX8_numberNow_51 : decode cX8_numberNow 51 = .ok (.if_icmp .le 8, 3) := dk_164 0 8 (dk_at dksX8_numberNow_2 5 rfl rfl)
theorem dX8_numberNow_54 : decode cX8_numberNow 54 = .ok (.aload_n 0, 1) := dk_42 (dk_at dksX8_numberNow_2 8 rfl rfl)
theorem dX8_numberNow_55 : decode cX8_numberNow 55 = .ok (.iconst 2, 1) := dk_5 (dk_at dksX8_numberNow_2 9 rfl rfl)
theorem dX8_numberNow_56 : decode cX8_numberNow 56 = .ok (.invokevirtual 220, 3) := dk_182 0 220 (dk_at dksX8_numberNow_2 10 rfl rfl)
theorem dX8_numberNow_59 : decode cX8_numberNow 59 = .ok (.aload_n 0, 1) := dk_42 (dk_at dksX8_numberNow_2 13 rfl rfl)
theorem dX8_numberNow_60 : decode cX8_numberNow 60 = .ok (.getfield 199, 3) := dk_180 0 199 (dk_at dksX8_numberNow_2 14 rfl rfl)
theorem dX8_numberNow_63 : decode cX8_numberNow 63 = .ok (.ifCond .ne 10, 3) := dk_154 0 10 (dk_at dksX8_numberNow_2 17 rfl rfl)
theorem dX8_numberNow_66 : decode cX8_numberNow 66 = .ok (.aload_n 0, 1) := dk_42 (dk_at dksX8_numberNow_2 20 rfl rfl)
theorem dX8_numberNow_67 : decode cX8_numberNow 67 = .ok (.getfield 183, 3) := dk_180 0 183 (dk_at dksX8_numberNow_2 21 rfl rfl)
theorem dX8_numberNow_70 : decode cX8_numberNow 70 = .ok (.goto 4, 3) := dk_167 0 4 (dk_at dksX8_numberNow_3 0 rfl rfl)
theorem dX8_numberNow_73 : decode cX8_numberNow 73 = .ok (.iconst 0, 1) := dk_3 (dk_at dksX8_numberNow_3 3 rfl rfl)
theorem dX8_numberNow_74 : decode cX8_numberNow 74 = .ok (.ireturn, 1) := dk_172 (dk_at dksX8_numberNow_3 4 rfl rfl)
abbrev cX8_readExpression : ByteArray := prog_20_method_28_code
def yX8_readExpression : MethodName := ⟨RX8, "readExpression", "(I)V"⟩
def dkwX8_readExpression_4 : List UInt8 := [177]
abbrev dktX8_readExpression_4 : List UInt8 := dkwX8_readExpression_4 ++ []
def dkwX8_readExpression_3 : List UInt8 := [182, 0, 213, 153, 0, 21, 42, 182, 0, 224, 42, 27, 182, 1, 6, 42, 16, 229, 182, 0, 233, 167, 255, 231]
abbrev dktX8_readExpression_3 : List UInt8 := dkwX8_readExpression_3 ++ dktX8_readExpression_4
def dkwX8_readExpression_2 : List UInt8 := [167, 0, 14, 27, 16, 6, 160, 0, 8, 42, 5, 182, 0, 220, 42, 27, 182, 1, 6, 42, 19, 1, 9]
abbrev dktX8_readExpression_2 : List UInt8 := dkwX8_readExpression_2 ++ dktX8_readExpression_3
def dkwX8_readExpression_1 : List UInt8 := [42, 16, 40, 182, 0, 217, 153, 0, 7, 4, 167, 0, 4, 3, 61, 28, 154, 0, 11, 42, 4, 182, 0, 220]
abbrev dktX8_readExpression_1 : List UInt8 := dkwX8_readExpression_1 ++ dktX8_readExpression_2
def dkwX8_readExpression_0 : List UInt8 := [42, 180, 0, 199, 153, 0, 4, 177, 42, 180, 0, 173, 5, 159, 0, 20, 42, 180, 0, 173, 4, 159, 0, 12]
abbrev dktX8_readExpression_0 : List UInt8 := dkwX8_readExpression_0 ++ dktX8_readExpression_1
theorem dksX8_readExpression_0 : cX8_readExpression.data.toList.drop 0 = dktX8_readExpression_0 := by decide +kernel
theorem dksX8_readExpression_1 : cX8_readExpression.data.toList.drop 24 = dktX8_readExpression_1 := dk_seg dksX8_readExpression_0 24 rfl rfl
theorem dksX8_readExpression_2 : cX8_readExpression.data.toList.drop 48 = dktX8_readExpression_2 := dk_seg dksX8_readExpression_1 24 rfl rfl
theorem dksX8_readExpression_3 : cX8_readExpression.data.toList.drop 71 = dktX8_readExpression_3 := dk_seg dksX8_readExpression_2 23 rfl rfl
theorem dksX8_readExpression_4 : cX8_readExpression.data.toList.drop 95 = dktX8_readExpression_4 := dk_seg dksX8_readExpression_3 24 rfl rfl
theorem dX8_readExpression_0 : decode cX8_readExpression 0 = .ok (.aload_n 0, 1) := dk_42 (dk_at dksX8_readExpression_0 0 rfl rfl)
theorem dX8_readExpression_1 : decode cX8_readExpression 1 = .ok (.getfield 199, 3) := dk_180 0 199 (dk_at dksX8_readExpression_0 1 rfl rfl)
theorem dX8_readExpression_4 : decode cX8_readExpression 4 = .ok (.ifCond .eq 4, 3) := dk_153 0 4 (dk_at dksX8_readExpression_0 4 rfl rfl)
theorem dX8_readExpression_7 : decode cX8_readExpression 7 = .ok (.return_, 1) := dk_177 (dk_at dksX8_readExpression_0 7 rfl rfl)
theorem dX8_readExpression_8 : decode cX8_readExpression 8 = .ok (.aload_n 0, 1) := dk_42 (dk_at dksX8_readExpression_0 8 rfl rfl)
theorem dX8_readExpression_9 : decode cX8_readExpression 9 = .ok (.getfield 173, 3) := dk_180 0 173 (dk_at dksX8_readExpression_0 9 rfl rfl)
theorem dX8_readExpression_12 : decode cX8_readExpression 12 = .ok (.iconst 2, 1) := dk_5 (dk_at dksX8_readExpression_0 12 rfl rfl)
theorem dX8_readExpression_13 : decode cX8_readExpression 13 = .ok (.if_icmp .eq 20, 3) := dk_159 0 20 (dk_at dksX8_readExpression_0 13 rfl rfl)
theorem dX8_readExpression_16 : decode cX8_readExpression 16 = .ok (.aload_n 0, 1) := dk_42 (dk_at dksX8_readExpression_0 16 rfl rfl)
theorem dX8_readExpression_17 : decode cX8_readExpression 17 = .ok (.getfield 173, 3) := dk_180 0 173 (dk_at dksX8_readExpression_0 17 rfl rfl)
theorem dX8_readExpression_20 : decode cX8_readExpression 20 = .ok (.iconst 1, 1) := dk_4 (dk_at dksX8_readExpression_0 20 rfl rfl)
theorem dX8_readExpression_21 : decode cX8_readExpression 21 = .ok (.if_icmp .eq 12, 3) := dk_159 0 12 (dk_at dksX8_readExpression_0 21 rfl rfl)
theorem dX8_readExpression_24 : decode cX8_readExpression 24 = .ok (.aload_n 0, 1) := dk_42 (dk_at dksX8_readExpression_1 0 rfl rfl)
theorem dX8_readExpression_25 : decode cX8_readExpression 25 = .ok (.bipush 40, 2) := dk_16 40 (dk_at dksX8_readExpression_1 1 rfl rfl)
theorem dX8_readExpression_27 : decode cX8_readExpression 27 = .ok (.invokevirtual 217, 3) := dk_182 0 217 (dk_at dksX8_readExpression_1 3 rfl rfl)
theorem dX8_readExpression_30 : decode cX8_readExpression 30 = .ok (.ifCond .eq 7, 3) := dk_153 0 7 (dk_at dksX8_readExpression_1 6 rfl rfl)
theorem dX8_readExpression_33 : decode cX8_readExpression 33 = .ok (.iconst 1, 1) := dk_4 (dk_at dksX8_readExpression_1 9 rfl rfl)
theorem dX8_readExpression_34 : decode cX8_readExpression 34 = .ok (.goto 4, 3) := dk_167 0 4 (dk_at dksX8_readExpression_1 10 rfl rfl)
theorem dX8_readExpression_37 : decode cX8_readExpression 37 = .ok (.iconst 0, 1) := dk_3 (dk_at dksX8_readExpression_1 13 rfl rfl)
theorem dX8_readExpression_38 : decode cX8_readExpression 38 = .ok (.istore_n 2, 1) := dk_61 (dk_at dksX8_readExpression_1 14 rfl rfl)
theorem dX8_readExpression_39 : decode cX8_readExpression 39 = .ok (.iload_n 2, 1) := dk_28 (dk_at dksX8_readExpression_1 15 rfl rfl)
theorem dX8_readExpression_40 : decode cX8_readExpression 40 = .ok (.ifCond .ne 11, 3) := dk_154 0 11 (dk_at dksX8_readExpression_1 16 rfl rfl)
theorem dX8_readExpression_43 : decode cX8_readExpression 43 = .ok (.aload_n 0, 1) := dk_42 (dk_at dksX8_readExpression_1 19 rfl rfl)
theorem dX8_readExpression_44 : decode cX8_readExpression 44 = .ok (.iconst 1, 1) := dk_4 (dk_at dksX8_readExpression_1 20 rfl rfl)
theorem dX8_readExpression_45 : decode cX8_readExpression 45 = .ok (.invokevirtual 220, 3) := dk_182 0 220 (dk_at dksX8_readExpression_1 21 rfl rfl)
theorem dX8_readExpression_48 : decode cX8_readExpression 48 = .ok (.goto 14, 3) := dk_167 0 14 (dk_at dksX8_readExpression_2 0 rfl rfl)
theorem dX8_readExpression_51 : decode cX8_readExpression 51 = .ok (.iload_n 1, 1) := dk_27 (dk_at dksX8_readExpression_2 3 rfl rfl)
theorem dX8_readExpression_52 : decode cX8_readExpression 52 = .ok (.bipush 6, 2) := dk_16 6 (dk_at dksX8_readExpression_2 4 rfl rfl)
theorem dX8_readExpression_54 : decode cX8_readExpression 54 = .ok (.if_icmp .ne 8, 3) := dk_160 0 8 (dk_at dksX8_readExpression_2 6 rfl rfl)
theorem dX8_readExpression_57 : decode cX8_readExpression 57 = .ok (.aload_n 0, 1) := dk_42 (dk_at dksX8_readExpression_2 9 rfl rfl)
theorem dX8_readExpression_58 : decode cX8_readExpression 58 = .ok (.iconst 2, 1) := dk_5 (dk_at dksX8_readExpression_2 10 rfl rfl)
theorem dX8_readExpression_59 : decode cX8_readExpression 59 = .ok (.invokevirtual 220, 3) := dk_182 0 220 (dk_at dksX8_readExpression_2 11 rfl rfl)
theorem dX8_readExpression_62 : decode cX8_readExpression 62 = .ok (.aload_n 0, 1) := dk_42 (dk_at dksX8_readExpression_2 14 rfl rfl)
theorem dX8_readExpression_63 : decode cX8_readExpression 63 = .ok (.iload_n 1, 1) := dk_27 (dk_at dksX8_readExpression_2 15 rfl rfl)
theorem dX8_readExpression_64 : decode cX8_readExpression 64 = .ok (.invokevirtual 262, 3) := dk_182 1 6 (dk_at dksX8_readExpression_2 16 rfl rfl)
theorem dX8_readExpression_67 : decode cX8_readExpression 67 = .ok (.aload_n 0, 1) := dk_42 (dk_at dksX8_readExpression_2 19 rfl rfl)
theorem dX8_readExpression_68 : decode cX8_readExpression 68 = .ok (.ldc_w 265, 3) := dk_19 1 9 (dk_at dksX8_readExpression_2 20 rfl rfl)
theorem dX8_readExpression_71 : decode cX8_readExpression 71 = .ok (.invokevirtual 213, 3) := dk_182 0 213 (dk_at dksX8_readExpression_3 0 rfl rfl)
theorem dX8_readExpression_74 : decode cX8_readExpression 74 = .ok (.ifCond .eq 21, 3) := dk_153 0 21 (dk_at dksX8_readExpression_3 3 rfl rfl)
theorem dX8_readExpression_77 : decode cX8_readExpression 77 = .ok (.aload_n 0, 1) := dk_42 (dk_at dksX8_readExpression_3 6 rfl rfl)
theorem dX8_readExpression_78 : decode cX8_readExpression 78 = .ok (.invokevirtual 224, 3) := dk_182 0 224 (dk_at dksX8_readExpression_3 7 rfl rfl)
theorem dX8_readExpression_81 : decode cX8_readExpression 81 = .ok (.aload_n 0, 1) := dk_42 (dk_at dksX8_readExpression_3 10 rfl rfl)
theorem dX8_readExpression_82 : decode cX8_readExpression 82 = .ok (.iload_n 1, 1) := dk_27 (dk_at dksX8_readExpression_3 11 rfl rfl)
theorem dX8_readExpression_83 : decode cX8_readExpression 83 = .ok (.invokevirtual 262, 3) := dk_182 1 6 (dk_at dksX8_readExpression_3 12 rfl rfl)
theorem dX8_readExpression_86 : decode cX8_readExpression 86 = .ok (.aload_n 0, 1) := dk_42 (dk_at dksX8_readExpression_3 15 rfl rfl)
theorem dX8_readExpression_87 : decode cX8_readExpression 87 = .ok (.bipush (-27), 2) := dk_16 229 (dk_at dksX8_readExpression_3 16 rfl rfl)
theorem dX8_readExpression_89 : decode cX8_readExpression 89 = .ok (.invokevirtual 233, 3) := dk_182 0 233 (dk_at dksX8_readExpression_3 18 rfl rfl)
theorem dX8_readExpression_92 : decode cX8_readExpression 92 = .ok (.goto (-25), 3) := dk_167 255 231 (dk_at dksX8_readExpression_3 21 rfl rfl)
theorem dX8_readExpression_95 : decode cX8_readExpression 95 = .ok (.return_, 1) := dk_177 (dk_at dksX8_readExpression_4 0 rfl rfl)
abbrev cX8_isMarked : ByteArray := prog_20_method_17_code
def yX8_isMarked : MethodName := ⟨RX8, "isMarked", "(I)Z"⟩
def dkwX8_isMarked_1 : List UInt8 := [27, 160, 0, 7, 4, 167, 0, 4, 3, 172]
abbrev dktX8_isMarked_1 : List UInt8 := dkwX8_isMarked_1 ++ []
def dkwX8_isMarked_0 : List UInt8 := [42, 180, 0, 199, 154, 0, 28, 42, 180, 0, 173, 6, 160, 0, 20, 42, 180, 0, 63, 42, 180, 0, 170, 46]
abbrev dktX8_isMarked_0 : List UInt8 := dkwX8_isMarked_0 ++ dktX8_isMarked_1
theorem dksX8_isMarked_0 : cX8_isMarked.data.toList.drop 0 = dktX8_isMarked_0 := by decide +kernel
theorem dksX8_isMarked_1 : cX8_isMarked.data.toList.drop 24 = dktX8_isMarked_1 := dk_seg dksX8_isMarked_0 24 rfl rfl
theorem dX8_isMarked_0 : decode cX8_isMarked 0 = .ok (.aload_n 0, 1) := dk_42 (dk_at dksX8_isMarked_0 0 rfl rfl)
theorem dX8_isMarked_1 : decode cX8_isMarked 1 = .ok (.getfield 199, 3) := dk_180 0 199 (dk_at dksX8_isMarked_0 1 rfl rfl)
theorem dX8_isMarked_4 : decode cX8_isMarked 4 = .ok (.ifCond .ne 28, 3) := dk_154 0 28 (dk_at dksX8_isMarked_0 4 rfl rfl)
theorem dX8_isMarked_7 : decode cX8_isMarked 7 = .ok (.aload_n 0, 1) := dk_42 (dk_at dksX8_isMarked_0 7 rfl rfl)
theorem dX8_isMarked_8 : decode cX8_isMarked 8 = .ok (.getfield 173, 3) := dk_180 0 173 (dk_at dksX8_isMarked_0 8 rfl rfl)
theorem dX8_isMarked_11 : decode cX8_isMarked 11 = .ok (.iconst 3, 1) := dk_6 (dk_at dksX8_isMarked_0 11 rfl rfl)
theorem dX8_isMarked_12 : decode cX8_isMarked 12 = .ok (.if_icmp .ne 20, 3) := dk_160 0 20 (dk_at dksX8_isMarked_0 12 rfl rfl)
theorem dX8_isMarked_15 : decode cX8_isMarked 15 = .ok (.aload_n 0, 1) := dk_42 (dk_at dksX8_isMarked_0 15 rfl rfl)
theorem dX8_isMarked_16 : decode cX8_isMarked 16 = .ok (.getfield 63, 3) := dk_180 0 63 (dk_at dksX8_isMarked_0 16 rfl rfl)
theorem dX8_isMarked_19 : decode cX8_isMarked 19 = .ok (.aload_n 0, 1) := dk_42 (dk_at dksX8_isMarked_0 19 rfl rfl)
theorem dX8_isMarked_20 : decode cX8_isMarked 20 = .ok (.getfield 170, 3) := dk_180 0 170 (dk_at dksX8_isMarked_0 20 rfl rfl)
theorem dX8_isMarked_23 : decode cX8_isMarked 23 = .ok (.iaload, 1) := dk_46 (dk_at dksX8_isMarked_0 23 rfl rfl)
theorem dX8_isMarked_24 : decode cX8_isMarked 24 = .ok (.iload_n 1, 1) := dk_27 (dk_at dksX8_isMarked_1 0 rfl rfl)
theorem dX8_isMarked_25 : decode cX8_isMarked 25 = .ok (.if_icmp .ne 7, 3) := dk_160 0 7 (dk_at dksX8_isMarked_1 1 rfl rfl)
theorem dX8_isMarked_28 : decode cX8_isMarked 28 = .ok (.iconst 1, 1) := dk_4 (dk_at dksX8_isMarked_1 4 rfl rfl)
theorem dX8_isMarked_29 : decode cX8_isMarked 29 = .ok (.goto 4, 3) := dk_167 0 4 (dk_at dksX8_isMarked_1 5 rfl rfl)
theorem dX8_isMarked_32 : decode cX8_isMarked 32 = .ok (.iconst 0, 1) := dk_3 (dk_at dksX8_isMarked_1 8 rfl rfl)
theorem dX8_isMarked_33 : decode cX8_isMarked 33 = .ok (.ireturn, 1) := dk_172 (dk_at dksX8_isMarked_1 9 rfl rfl)
abbrev cX8_readAnd : ByteArray := prog_20_method_27_code
def yX8_readAnd : MethodName := ⟨RX8, "readAnd", "(I)V"⟩
def dkwX8_readAnd_1 : List UInt8 := [42, 16, 230, 182, 0, 233, 167, 255, 231, 177]
abbrev dktX8_readAnd_1 : List UInt8 := dkwX8_readAnd_1 ++ []
def dkwX8_readAnd_0 : List UInt8 := [42, 27, 182, 1, 1, 42, 19, 1, 4, 182, 0, 213, 153, 0, 21, 42, 182, 0, 224, 42, 27, 182, 1, 1]
abbrev dktX8_readAnd_0 : List UInt8 := dkwX8_readAnd_0 ++ dktX8_readAnd_1
theorem dksX8_readAnd_0 : cX8_readAnd.data.toList.drop 0 = dktX8_readAnd_0 := by decide +kernel
theorem dksX8_readAnd_1 : cX8_readAnd.data.toList.drop 24 = dktX8_readAnd_1 := dk_seg dksX8_readAnd_0 24 rfl rfl
theorem dX8_readAnd_0 : decode cX8_readAnd 0 = .ok (.aload_n 0, 1) := dk_42 (dk_at dksX8_readAnd_0 0 rfl rfl)
theorem dX8_readAnd_1 : decode cX8_readAnd 1 = .ok (.iload_n 1, 1) := dk_27 (dk_at dksX8_readAnd_0 1 rfl rfl)
theorem dX8_readAnd_2 : decode cX8_readAnd 2 = .ok (.invokevirtual 257, 3) := dk_182 1 1 (dk_at dksX8_readAnd_0 2 rfl rfl)
theorem dX8_readAnd_5 : decode cX8_readAnd 5 = .ok (.aload_n 0, 1) := dk_42 (dk_at dksX8_readAnd_0 5 rfl rfl)
theorem dX8_readAnd_6 : decode cX8_readAnd 6 = .ok (.ldc_w 260, 3) := dk_19 1 4 (dk_at dksX8_readAnd_0 6 rfl rfl)
theorem dX8_readAnd_9 : decode cX8_readAnd 9 = .ok (.invokevirtual 213, 3) := dk_182 0 213 (dk_at dksX8_readAnd_0 9 rfl rfl)
theorem dX8_readAnd_12 : decode cX8_readAnd 12 = .ok (.ifCond .eq 21, 3) := dk_153 0 21 (dk_at dksX8_readAnd_0 12 rfl rfl)
theorem dX8_readAnd_15 : decode cX8_readAnd 15 = .ok (.aload_n 0, 1) := dk_42 (dk_at dksX8_readAnd_0 15 rfl rfl)
theorem dX8_readAnd_16 : decode cX8_readAnd 16 = .ok (.invokevirtual 224, 3) := dk_182 0 224 (dk_at dksX8_readAnd_0 16 rfl rfl)
theorem dX8_readAnd_19 : decode cX8_readAnd 19 = .ok (.aload_n 0, 1) := dk_42 (dk_at dksX8_readAnd_0 19 rfl rfl)
theorem dX8_readAnd_20 : decode cX8_readAnd 20 = .ok (.iload_n 1, 1) := dk_27 (dk_at dksX8_readAnd_0 20 rfl rfl)
theorem dX8_readAnd_21 : decode cX8_readAnd 21 = .ok (.invokevirtual 257, 3) := dk_182 1 1 (dk_at dksX8_readAnd_0 21 rfl rfl)
theorem dX8_readAnd_24 : decode cX8_readAnd 24 = .ok (.aload_n 0, 1) := dk_42 (dk_at dksX8_readAnd_1 0 rfl rfl)
theorem dX8_readAnd_25 : decode cX8_readAnd 25 = .ok (.bipush (-26), 2) := dk_16 230 (dk_at dksX8_readAnd_1 1 rfl rfl)
theorem dX8_readAnd_27 : decode cX8_readAnd 27 = .ok (.invokevirtual 233, 3) := dk_182 0 233 (dk_at dksX8_readAnd_1 3 rfl rfl)
theorem dX8_readAnd_30 : decode cX8_readAnd 30 = .ok (.goto (-25), 3) := dk_167 255 231 (dk_at dksX8_readAnd_1 6 rfl rfl)
theorem dX8_readAnd_33 : decode cX8_readAnd 33 = .ok (.return_, 1) := dk_177 (dk_at dksX8_readAnd_1 9 rfl rfl)
abbrev cX8_readNot : ByteArray := prog_20_method_26_code
def yX8_readNot : MethodName := ⟨RX8, "readNot", "(I)V"⟩
def dkwX8_readNot_4 : List UInt8 := [182, 0, 233, 3, 62, 29, 28, 162, 0, 15, 42, 16, 228, 182, 0, 233, 132, 3, 1, 167, 255, 242, 177]
abbrev dktX8_readNot_4 : List UInt8 := dkwX8_readNot_4 ++ []
def dkwX8_readNot_3 : List UInt8 := [153, 0, 8, 16, 232, 167, 0, 5, 16, 231, 62, 42, 182, 0, 224, 42, 27, 182, 0, 254, 42, 29]
abbrev dktX8_readNot_3 : List UInt8 := dkwX8_readNot_3 ++ dktX8_readNot_4
def dkwX8_readNot_2 : List UInt8 := [16, 60, 182, 0, 217, 154, 0, 12, 42, 16, 61, 182, 0, 217, 153, 0, 34, 42, 16, 60, 182, 0, 217]
abbrev dktX8_readNot_2 : List UInt8 := dkwX8_readNot_2 ++ dktX8_readNot_3
def dkwX8_readNot_1 : List UInt8 := [132, 2, 1, 42, 180, 0, 199, 154, 255, 229, 42, 182, 0, 224, 167, 255, 222, 42, 27, 182, 0, 254, 42]
abbrev dktX8_readNot_1 : List UInt8 := dkwX8_readNot_1 ++ dktX8_readNot_2
def dkwX8_readNot_0 : List UInt8 := [3, 61, 42, 18, 252, 182, 0, 213, 153, 0, 31, 28, 16, 6, 160, 0, 8, 42, 5, 182, 0, 220]
abbrev dktX8_readNot_0 : List UInt8 := dkwX8_readNot_0 ++ dktX8_readNot_1
theorem dksX8_readNot_0 : cX8_readNot.data.toList.drop 0 = dktX8_readNot_0 := by decide +kernel
theorem dksX8_readNot_1 : cX8_readNot.data.toList.drop 22 = dktX8_readNot_1 := dk_seg dksX8_readNot_0 22 rfl rfl
theorem dksX8_readNot_2 : cX8_readNot.data.toList.drop 45 = dktX8_readNot_2 := dk_seg dksX8_readNot_1 23 rfl rfl
theorem dksX8_readNot_3 : cX8_readNot.data.toList.drop 68 = dktX8_readNot_3 := dk_seg dksX8_readNot_2 23 rfl rfl
theorem dksX8_readNot_4 : cX8_readNot.data.toList.drop 90 = dktX8_readNot_4 := dk_seg dksX8_readNot_3 22 rfl rfl
theorem dX8_readNot_0 : decode cX8_readNot 0 = .ok (.iconst 0, 1) := dk_3 (dk_at dksX8_readNot_0 0 rfl rfl)
theorem dX8_readNot_1 : decode cX8_readNot 1 = .ok (.istore_n 2, 1) := dk_61 (dk_at dksX8_readNot_0 1 rfl rfl)
theorem dX8_readNot_2 : decode cX8_readNot 2 = .ok (.aload_n 0, 1) := dk_42 (dk_at dksX8_readNot_0 2 rfl rfl)
theorem dX8_readNot_3 : decode cX8_readNot 3 = .ok (.ldc 252, 2) := dk_18 252 (dk_at dksX8_readNot_0 3 rfl rfl)
theorem dX8_readNot_5 : decode cX8_readNot 5 = .ok (.invokevirtual 213, 3) := dk_182 0 213 (dk_at dksX8_readNot_0 5 rfl rfl)
theorem dX8_readNot_8 : decode cX8_readNot 8 = .ok (.ifCond .eq 31, 3) := dk_153 0 31 (dk_at dksX8_readNot_0 8 rfl rfl)
theorem dX8_readNot_11 : decode cX8_readNot 11 = .ok (.iload_n 2, 1) := dk_28 (dk_at dksX8_readNot_0 11 rfl rfl)
theorem dX8_readNot_12 : decode cX8_readNot 12 = .ok (.bipush 6, 2) := dk_16 6 (dk_at dksX8_readNot_0 12 rfl rfl)
theorem dX8_readNot_14 : decode cX8_readNot 14 = .ok (.if_icmp .ne 8, 3) := dk_160 0 8 (dk_at dksX8_readNot_0 14 rfl rfl)
theorem dX8_readNot_17 : decode cX8_readNot 17 = .ok (.aload_n 0, 1) := dk_42 (dk_at dksX8_readNot_0 17 rfl rfl)
theorem dX8_readNot_18 : decode cX8_readNot 18 = .ok (.iconst 2, 1) := dk_5 (dk_at dksX8_readNot_0 18 rfl rfl)
theorem dX8_readNot_19 : decode cX8_readNot 19 = .ok (.invokevirtual 220, 3) := dk_182 0 220 (dk_at dksX8_readNot_0 19 rfl rfl)
theorem dX8_readNot_22 : decode cX8_readNot 22 = .ok (.iinc 2 1, 3) := dk_132 2 1 (dk_at dksX8_readNot_1 0 rfl rfl)
theorem dX8_readNot_25 : decode cX8_readNot 25 = .ok (.aload_n 0, 1) := dk_42 (dk_at dksX8_readNot_1 3 rfl rfl)
theorem dX8_readNot_26 : decode cX8_readNot 26 = .ok (.getfield 199, 3) := dk_180 0 199 (dk_at dksX8_readNot_1 4 rfl rfl)
theorem dX8_readNot_29 : decode cX8_readNot 29 = .ok (.ifCond .ne (-27), 3) := dk_154 255 229 (dk_at dksX8_readNot_1 7 rfl rfl)
theorem dX8_readNot_32 : decode cX8_readNot 32 = .ok (.aload_n 0, 1) := dk_42 (dk_at dksX8_readNot_1 10 rfl rfl)
theorem dX8_readNot_33 : decode cX8_readNot 33 = .ok (.invokevirtual 224, 3) := dk_182 0 224 (dk_at dksX8_readNot_1 11 rfl rfl)
theorem dX8_readNot_36 : decode cX8_readNot 36 = .ok (.goto (-34), 3) := dk_167 255 222 (dk_at dksX8_readNot_1 14 rfl rfl)
theorem dX8_readNot_39 : decode cX8_readNot 39 = .ok (.aload_n 0, 1) := dk_42 (dk_at dksX8_readNot_1 17 rfl rfl)
theorem dX8_readNot_40 : decode cX8_readNot 40 = .ok (.iload_n 1, 1) := dk_27 (dk_at dksX8_readNot_1 18 rfl rfl)
theorem dX8_readNot_41 : decode cX8_readNot 41 = .ok (.invokevirtual 254, 3) := dk_182 0 254 (dk_at dksX8_readNot_1 19 rfl rfl)
theorem dX8_readNot_44 : decode cX8_readNot 44 = .ok (.aload_n 0, 1) := dk_42 (dk_at dksX8_readNot_1 22 rfl rfl)
theorem dX8_readNot_45 : decode cX8_readNot 45 = .ok (.bipush 60, 2) := dk_16 60 (dk_at dksX8_readNot_2 0 rfl rfl)
theorem dX8_readNot_47 : decode cX8_readNot 47 = .ok (.invokevirtual 217, 3) := dk_182 0 217 (dk_at dksX8_readNot_2 2 rfl rfl)
theorem dX8_readNot_50 : decode cX8_readNot 50 = .ok (.ifCond .ne 12, 3) := dk_154 0 12 (dk_at dksX8_readNot_2 5 rfl rfl)
theorem dX8_readNot_53 : decode cX8_readNot 53 = .ok (.aload_n 0, 1) := dk_42 (dk_at dksX8_readNot_2 8 rfl rfl)
theorem dX8_readNot_54 : decode cX8_readNot 54 = .ok (.bipush 61, 2) := dk_16 61 (dk_at dksX8_readNot_2 9 rfl rfl)
theorem dX8_readNot_56 : decode cX8_readNot 56 = .ok (.invokevirtual 217, 3) := dk_182 0 217 (dk_at dksX8_readNot_2 11 rfl rfl)
theorem dX8_readNot_59 : decode cX8_readNot 59 = .ok (.ifCond .eq 34, 3) := dk_153 0 34 (dk_at dksX8_readNot_2 14 rfl rfl)
theorem dX8_readNot_62 : decode cX8_readNot 62 = .ok (.aload_n 0, 1) := dk_42 (dk_at dksX8_readNot_2 17 rfl rfl)
theorem dX8_readNot_63 : decode cX8_readNot 63 = .ok (.bipush 60, 2) := dk_16 60 (dk_at dksX8_readNot_2 18 rfl rfl)
theorem dX8_readNot_65 : decode cX8_readNot 65 = .ok (.invokevirtual 217, 3) := dk_182 0 217 (dk_at dksX8_readNot_2 20 rfl rfl)
theorem dX8_readNot_68 : decode cX8_readNot 68 = .ok (.ifCond .eq 8, 3) := dk_153 0 8 (dk_at dksX8_readNot_3 0 rfl rfl)
theorem dX8_readNot_71 : decode cX8_readNot 71 = .ok (.bipush (-24), 2) := dk_16 232 (dk_at dksX8_readNot_3 3 rfl rfl)
theorem dX8_readNot_73 : decode cX8_readNot 73 = .ok (.goto 5, 3) := dk_167 0 5 (dk_at dksX8_readNot_3 5 rfl rfl)
theorem dX8_readNot_76 : decode cX8_readNot 76 = .ok (.bipush (-25), 2) := dk_16 231 (dk_at dksX8_readNot_3 8 rfl rfl)
theorem dX8_readNot_78 : decode cX8_readNot 78 = .ok (.istore_n 3, 1) := dk_62 (dk_at dksX8_readNot_3 10 rfl rfl)
theorem dX8_readNot_79 : decode cX8_readNot 79 = .ok (.aload_n 0, 1) := dk_42 (dk_at dksX8_readNot_3 11 rfl rfl)
theorem dX8_readNot_80 : decode cX8_readNot 80 = .ok (.invokevirtual 224, 3) := dk_182 0 224 (dk_at dksX8_readNot_3 12 rfl rfl)
theorem dX8_readNot_83 : decode cX8_readNot 83 = .ok (.aload_n 0, 1) := dk_42 (dk_at dksX8_readNot_3 15 rfl rfl)
theorem dX8_readNot_84 : decode cX8_readNot 84 = .ok (.iload_n 1, 1) := dk_27 (dk_at dksX8_readNot_3 16 rfl rfl)
theorem dX8_readNot_85 : decode cX8_readNot 85 = .ok (.invokevirtual 254, 3) := dk_182 0 254 (dk_at dksX8_readNot_3 17 rfl rfl)
theorem dX8_readNot_88 : decode cX8_readNot 88 = .ok (.aload_n 0, 1) := dk_42 (dk_at dksX8_readNot_3 20 rfl rfl)
theorem dX8_readNot_89 : decode cX8_readNot 89 = .ok (.iload_n 3, 1) := dk_29 (dk_at dksX8_readNot_3 21 rfl rfl)
theorem dX8_readNot_90 : decode cX8_readNot 90 = .ok (.invokevirtual 233, 3) := dk_182 0 233 (dk_at dksX8_readNot_4 0 rfl rfl)
theorem dX8_readNot_93 : decode cX8_readNot 93 = .ok (.iconst 0, 1) := dk_3 (dk_at dksX8_readNot_4 3 rfl rfl)
theorem dX8_readNot_94 : decode cX8_readNot 94 = .ok (.istore_n 3, 1) := dk_62 (dk_at dksX8_readNot_4 4 rfl rfl)
theorem dX8_readNot_95 : decode cX8_readNot 95 = .ok (.iload_n 3, 1) := dk_29 (dk_at dksX8_readNot_4 5 rfl rfl)
theorem dX8_readNot_96 : decode cX8_readNot 96 = .ok (.iload_n 2, 1) := dk_28 (dk_at dksX8_readNot_4 6 rfl rfl)
theorem dX8_readNot_97 : decode cX8_readNot 97 = .ok (.if_icmp .ge 15, 3) := dk_162 0 15 (dk_at dksX8_readNot_4 7 rfl rfl)
theorem dX8_readNot_100 : decode cX8_readNot 100 = .ok (.aload_n 0, 1) := dk_42 (dk_at dksX8_readNot_4 10 rfl rfl)
theorem dX8_readNot_101 : decode cX8_readNot 101 = .ok (.bipush (-28), 2) := dk_16 228 (dk_at dksX8_readNot_4 11 rfl rfl)
theorem dX8_readNot_103 : decode cX8_readNot 103 = .ok (.invokevirtual 233, 3) := dk_182 0 233 (dk_at dksX8_readNot_4 13 rfl rfl)
theorem dX8_readNot_106 : decode cX8_readNot 106 = .ok (.iinc 3 1, 3) := dk_132 3 1 (dk_at dksX8_readNot_4 16 rfl rfl)
theorem dX8_readNot_109 : decode cX8_readNot 109 = .ok (.goto (-14), 3) := dk_167 255 242 (dk_at dksX8_readNot_4 19 rfl rfl)
theorem dX8_readNot_112 : decode cX8_readNot 112 = .ok (.return_, 1) := dk_177 (dk_at dksX8_readNot_4 22 rfl rfl)
abbrev cX8_readSum : ByteArray := prog_20_method_25_code
def yX8_readSum : MethodName := ⟨RX8, "readSum", "(I)V"⟩
def dkwX8_readSum_2 : List UInt8 := [182, 0, 249, 42, 28, 182, 0, 233, 167, 255, 207, 177]
abbrev dktX8_readSum_2 : List UInt8 := dkwX8_readSum_2 ++ []
def dkwX8_readSum_1 : List UInt8 := [16, 43, 182, 0, 217, 153, 0, 8, 16, 236, 167, 0, 5, 16, 235, 61, 42, 182, 0, 224, 42, 27]
abbrev dktX8_readSum_1 : List UInt8 := dkwX8_readSum_1 ++ dktX8_readSum_2
def dkwX8_readSum_0 : List UInt8 := [42, 27, 182, 0, 249, 42, 16, 43, 182, 0, 217, 154, 0, 12, 42, 16, 45, 182, 0, 217, 153, 0, 37, 42]
abbrev dktX8_readSum_0 : List UInt8 := dkwX8_readSum_0 ++ dktX8_readSum_1
theorem dksX8_readSum_0 : cX8_readSum.data.toList.drop 0 = dktX8_readSum_0 := by decide +kernel
theorem dksX8_readSum_1 : cX8_readSum.data.toList.drop 24 = dktX8_readSum_1 := dk_seg dksX8_readSum_0 24 rfl rfl
theorem dksX8_readSum_2 : cX8_readSum.data.toList.drop 46 = dktX8_readSum_2 := dk_seg dksX8_readSum_1 22 rfl rfl
theorem dX8_readSum_0 : decode cX8_readSum 0 = .ok (.aload_n 0, 1) := dk_42 (dk_at dksX8_readSum_0 0 rfl rfl)
theorem dX8_readSum_1 : decode cX8_readSum 1 = .ok (.iload_n 1, 1) := dk_27 (dk_at dksX8_readSum_0 1 rfl rfl)
theorem dX8_readSum_2 : decode cX8_readSum 2 = .ok (.invokevirtual 249, 3) := dk_182 0 249 (dk_at dksX8_readSum_0 2 rfl rfl)
theorem dX8_readSum_5 : decode cX8_readSum 5 = .ok (.aload_n 0, 1) := dk_42 (dk_at dksX8_readSum_0 5 rfl rfl)
theorem dX8_readSum_6 : decode cX8_readSum 6 = .ok (.bipush 43, 2) := dk_16 43 (dk_at dksX8_readSum_0 6 rfl rfl)
theorem dX8_readSum_8 : decode cX8_readSum 8 = .ok (.invokevirtual 217, 3) := dk_182 0 217 (dk_at dksX8_readSum_0 8 rfl rfl)
theorem dX8_readSum_11 : decode cX8_readSum 11 = .ok (.ifCond .ne 12, 3) := dk_154 0 12 (dk_at dksX8_readSum_0 11 rfl rfl)
theorem dX8_readSum_14 : decode cX8_readSum 14 = .ok (.aload_n 0, 1) := dk_42 (dk_at dksX8_readSum_0 14 rfl rfl)
theorem dX8_readSum_15 : decode cX8_readSum 15 = .ok (.bipush 45, 2) := dk_16 45 (dk_at dksX8_readSum_0 15 rfl rfl)
theorem dX8_readSum_17 : decode cX8_readSum 17 = .ok (.invokevirtual 217, 3) := dk_182 0 217 (dk_at dksX8_readSum_0 17 rfl rfl)
theorem dX8_readSum_20 : decode cX8_readSum 20 = .ok (.ifCond .eq 37, 3) := dk_153 0 37 (dk_at dksX8_readSum_0 20 rfl rfl)
theorem dX8_readSum_23 : decode cX8_readSum 23 = .ok (.aload_n 0, 1) := dk_42 (dk_at dksX8_readSum_0 23 rfl rfl)
theorem dX8_readSum_24 : decode cX8_readSum 24 = .ok (.bipush 43, 2) := dk_16 43 (dk_at dksX8_readSum_1 0 rfl rfl)
theorem dX8_readSum_26 : decode cX8_readSum 26 = .ok (.invokevirtual 217, 3) := dk_182 0 217 (dk_at dksX8_readSum_1 2 rfl rfl)
theorem dX8_readSum_29 : decode cX8_readSum 29 = .ok (.ifCond .eq 8, 3) := dk_153 0 8 (dk_at dksX8_readSum_1 5 rfl rfl)
theorem dX8_readSum_32 : decode cX8_readSum 32 = .ok (.bipush (-20), 2) := dk_16 236 (dk_at dksX8_readSum_1 8 rfl rfl)
theorem dX8_readSum_34 : decode cX8_readSum 34 = .ok (.goto 5, 3) := dk_167 0 5 (dk_at dksX8_readSum_1 10 rfl rfl)
theorem dX8_readSum_37 : decode cX8_readSum 37 = .ok (.bipush (-21), 2) := dk_16 235 (dk_at dksX8_readSum_1 13 rfl rfl)
theorem dX8_readSum_39 : decode cX8_readSum 39 = .ok (.istore_n 2, 1) := dk_61 (dk_at dksX8_readSum_1 15 rfl rfl)
theorem dX8_readSum_40 : decode cX8_readSum 40 = .ok (.aload_n 0, 1) := dk_42 (dk_at dksX8_readSum_1 16 rfl rfl)
theorem dX8_readSum_41 : decode cX8_readSum 41 = .ok (.invokevirtual 224, 3) := dk_182 0 224 (dk_at dksX8_readSum_1 17 rfl rfl)
theorem dX8_readSum_44 : decode cX8_readSum 44 = .ok (.aload_n 0, 1) := dk_42 (dk_at dksX8_readSum_1 20 rfl rfl)
theorem dX8_readSum_45 : decode cX8_readSum 45 = .ok (.iload_n 1, 1) := dk_27 (dk_at dksX8_readSum_1 21 rfl rfl)
theorem dX8_readSum_46 : decode cX8_readSum 46 = .ok (.invokevirtual 249, 3) := dk_182 0 249 (dk_at dksX8_readSum_2 0 rfl rfl)
theorem dX8_readSum_49 : decode cX8_readSum 49 = .ok (.aload_n 0, 1) := dk_42 (dk_at dksX8_readSum_2 3 rfl rfl)
theorem dX8_readSum_50 : decode cX8_readSum 50 = .ok (.iload_n 2, 1) := dk_28 (dk_at dksX8_readSum_2 4 rfl rfl)
theorem dX8_readSum_51 : decode cX8_readSum 51 = .ok (.invokevirtual 233, 3) := dk_182 0 233 (dk_at dksX8_readSum_2 5 rfl rfl)
theorem dX8_readSum_54 : decode cX8_readSum 54 = .ok (.goto (-49), 3) := dk_167 255 207 (dk_at dksX8_readSum_2 8 rfl rfl)
theorem dX8_readSum_57 : decode cX8_readSum 57 = .ok (.return_, 1) := dk_177 (dk_at dksX8_readSum_2 11 rfl rfl)
abbrev cX8_readProduct : ByteArray := prog_20_method_24_code
def yX8_readProduct : MethodName := ⟨RX8, "readProduct", "(I)V"⟩
def dkwX8_readProduct_2 : List UInt8 := [182, 0, 246, 42, 28, 182, 0, 233, 167, 255, 207, 177]
abbrev dktX8_readProduct_2 : List UInt8 := dkwX8_readProduct_2 ++ []
def dkwX8_readProduct_1 : List UInt8 := [16, 42, 182, 0, 217, 153, 0, 8, 16, 234, 167, 0, 5, 16, 233, 61, 42, 182, 0, 224, 42, 27]
abbrev dktX8_readProduct_1 : List UInt8 := dkwX8_readProduct_1 ++ dktX8_readProduct_2
def dkwX8_readProduct_0 : List UInt8 := [42, 27, 182, 0, 246, 42, 16, 42, 182, 0, 217, 154, 0, 12, 42, 16, 47, 182, 0, 217, 153, 0, 37, 42]
abbrev dktX8_readProduct_0 : List UInt8 := dkwX8_readProduct_0 ++ dktX8_readProduct_1
theorem dksX8_readProduct_0 : cX8_readProduct.data.toList.drop 0 = dktX8_readProduct_0 := by decide +kernel
theorem dksX8_readProduct_1 : cX8_readProduct.data.toList.drop 24 = dktX8_readProduct_1 := dk_seg dksX8_readProduct_0 24 rfl rfl
theorem dksX8_readProduct_2 : cX8_readProduct.data.toList.drop 46 = dktX8_readProduct_2 := dk_seg dksX8_readProduct_1 22 rfl rfl
theorem dX8_readProduct_0 : decode cX8_readProduct 0 = .ok (.aload_n 0, 1) := dk_42 (dk_at dksX8_readProduct_0 0 rfl rfl)
theorem dX8_readProduct_1 : decode cX8_readProduct 1 = .ok (.iload_n 1, 1) := dk_27 (dk_at dksX8_readProduct_0 1 rfl rfl)
theorem dX8_readProduct_2 : decode cX8_readProduct 2 = .ok (.invokevirtual 246, 3) := dk_182 0 246 (dk_at dksX8_readProduct_0 2 rfl rfl)
theorem dX8_readProduct_5 : decode cX8_readProduct 5 = .ok (.aload_n 0, 1) := dk_42 (dk_at dksX8_readProduct_0 5 rfl rfl)
theorem dX8_readProduct_6 : decode cX8_readProduct 6 = .ok (.bipush 42, 2) := dk_16 42 (dk_at dksX8_readProduct_0 6 rfl rfl)
theorem dX8_readProduct_8 : decode cX8_readProduct 8 = .ok (.invokevirtual 217, 3) := dk_182 0 217 (dk_at dksX8_readProduct_0 8 rfl rfl)
theorem dX8_readProduct_11 : decode cX8_readProduct 11 = .ok (.ifCond .ne 12, 3) := dk_154 0 12 (dk_at dksX8_readProduct_0 11 rfl rfl)
theorem dX8_readProduct_14 : decode cX8_readProduct 14 = .ok (.aload_n 0, 1) := dk_42 (dk_at dksX8_readProduct_0 14 rfl rfl)
theorem dX8_readProduct_15 : decode cX8_readProduct 15 = .ok (.bipush 47, 2) := dk_16 47 (dk_at dksX8_readProduct_0 15 rfl rfl)
theorem dX8_readProduct_17 : decode cX8_readProduct 17 = .ok (.invokevirtual 217, 3) := dk_182 0 217 (dk_at dksX8_readProduct_0 17 rfl rfl)
theorem dX8_readProduct_20 : decode cX8_readProduct 20 = .ok (.ifCond .eq 37, 3) := dk_153 0 37 (dk_at dksX8_readProduct_0 20 rfl rfl)
theorem dX8_readProduct_23 : decode cX8_readProduct 23 = .ok (.aload_n 0, 1) := dk_42 (dk_at dksX8_readProduct_0 23 rfl rfl)
theorem dX8_readProduct_24 : decode cX8_readProduct 24 = .ok (.bipush 42, 2) := dk_16 42 (dk_at dksX8_readProduct_1 0 rfl rfl)
theorem dX8_readProduct_26 : decode cX8_readProduct 26 = .ok (.invokevirtual 217, 3) := dk_182 0 217 (dk_at dksX8_readProduct_1 2 rfl rfl)
theorem dX8_readProduct_29 : decode cX8_readProduct 29 = .ok (.ifCond .eq 8, 3) := dk_153 0 8 (dk_at dksX8_readProduct_1 5 rfl rfl)
theorem dX8_readProduct_32 : decode cX8_readProduct 32 = .ok (.bipush (-22), 2) := dk_16 234 (dk_at dksX8_readProduct_1 8 rfl rfl)
theorem dX8_readProduct_34 : decode cX8_readProduct 34 = .ok (.goto 5, 3) := dk_167 0 5 (dk_at dksX8_readProduct_1 10 rfl rfl)
theorem dX8_readProduct_37 : decode cX8_readProduct 37 = .ok (.bipush (-23), 2) := dk_16 233 (dk_at dksX8_readProduct_1 13 rfl rfl)
theorem dX8_readProduct_39 : decode cX8_readProduct 39 = .ok (.istore_n 2, 1) := dk_61 (dk_at dksX8_readProduct_1 15 rfl rfl)
theorem dX8_readProduct_40 : decode cX8_readProduct 40 = .ok (.aload_n 0, 1) := dk_42 (dk_at dksX8_readProduct_1 16 rfl rfl)
theorem dX8_readProduct_41 : decode cX8_readProduct 41 = .ok (.invokevirtual 224, 3) := dk_182 0 224 (dk_at dksX8_readProduct_1 17 rfl rfl)
theorem dX8_readProduct_44 : decode cX8_readProduct 44 = .ok (.aload_n 0, 1) := dk_42 (dk_at dksX8_readProduct_1 20 rfl rfl)
theorem dX8_readProduct_45 : decode cX8_readProduct 45 = .ok (.iload_n 1, 1) := dk_27 (dk_at dksX8_readProduct_1 21 rfl rfl)
theorem dX8_readProduct_46 : decode cX8_readProduct 46 = .ok (.invokevirtual 246, 3) := dk_182 0 246 (dk_at dksX8_readProduct_2 0 rfl rfl)
theorem dX8_readProduct_49 : decode cX8_readProduct 49 = .ok (.aload_n 0, 1) := dk_42 (dk_at dksX8_readProduct_2 3 rfl rfl)
theorem dX8_readProduct_50 : decode cX8_readProduct 50 = .ok (.iload_n 2, 1) := dk_28 (dk_at dksX8_readProduct_2 4 rfl rfl)
theorem dX8_readProduct_51 : decode cX8_readProduct 51 = .ok (.invokevirtual 233, 3) := dk_182 0 233 (dk_at dksX8_readProduct_2 5 rfl rfl)
theorem dX8_readProduct_54 : decode cX8_readProduct 54 = .ok (.goto (-49), 3) := dk_167 255 207 (dk_at dksX8_readProduct_2 8 rfl rfl)
theorem dX8_readProduct_57 : decode cX8_readProduct 57 = .ok (.return_, 1) := dk_177 (dk_at dksX8_readProduct_2 11 rfl rfl)
abbrev cX8_readPart : ByteArray := prog_20_method_23_code
def yX8_readPart : MethodName := ⟨RX8, "readPart", "(I)V"⟩
def dkwX8_readPart_4 : List UInt8 := [177]
abbrev dktX8_readPart_4 : List UInt8 := dkwX8_readPart_4 ++ []
def dkwX8_readPart_3 : List UInt8 := [42, 182, 0, 224, 177, 42, 16, 40, 182, 0, 240, 42, 27, 4, 96, 182, 0, 243, 42, 16, 41, 182, 0, 240]
abbrev dktX8_readPart_3 : List UInt8 := dkwX8_readPart_3 ++ dktX8_readPart_4
def dkwX8_readPart_2 : List UInt8 := [28, 2, 160, 0, 8, 42, 6, 182, 0, 220, 42, 2, 28, 100, 182, 0, 233, 42, 180, 0, 199, 154, 0, 7]
abbrev dktX8_readPart_2 : List UInt8 := dkwX8_readPart_2 ++ dktX8_readPart_3
def dkwX8_readPart_1 : List UInt8 := [182, 0, 230, 182, 0, 233, 177, 42, 180, 0, 173, 4, 160, 0, 41, 42, 42, 180, 0, 31, 182, 0, 236, 61]
abbrev dktX8_readPart_1 : List UInt8 := dkwX8_readPart_1 ++ dktX8_readPart_2
def dkwX8_readPart_0 : List UInt8 := [42, 180, 0, 199, 153, 0, 4, 177, 42, 180, 0, 173, 5, 160, 0, 16, 42, 42, 3, 17, 39, 15]
abbrev dktX8_readPart_0 : List UInt8 := dkwX8_readPart_0 ++ dktX8_readPart_1
theorem dksX8_readPart_0 : cX8_readPart.data.toList.drop 0 = dktX8_readPart_0 := by decide +kernel
theorem dksX8_readPart_1 : cX8_readPart.data.toList.drop 22 = dktX8_readPart_1 := dk_seg dksX8_readPart_0 22 rfl rfl
theorem dksX8_readPart_2 : cX8_readPart.data.toList.drop 46 = dktX8_readPart_2 := dk_seg dksX8_readPart_1 24 rfl rfl
theorem dksX8_readPart_3 : cX8_readPart.data.toList.drop 70 = dktX8_readPart_3 := dk_seg dksX8_readPart_2 24 rfl rfl
theorem dksX8_readPart_4 : cX8_readPart.data.toList.drop 94 = dktX8_readPart_4 := dk_seg dksX8_readPart_3 24 rfl rfl
theorem dX8_readPart_0 : decode cX8_readPart 0 = .ok (.aload_n 0, 1) := dk_42 (dk_at dksX8_readPart_0 0 rfl rfl)
theorem dX8_readPart_1 : decode cX8_readPart 1 = .ok (.getfield 199, 3) := dk_180 0 199 (dk_at dksX8_readPart_0 1 rfl rfl)
theorem dX8_readPart_4 : decode cX8_readPart 4 = .ok (.ifCond .eq 4, 3) := dk_153 0 4 (dk_at dksX8_readPart_0 4 rfl rfl)
theorem dX8_readPart_7 : decode cX8_readPart 7 = .ok (.return_, 1) := dk_177 (dk_at dksX8_readPart_0 7 rfl rfl)
theorem dX8_readPart_8 : decode cX8_readPart 8 = .ok (.aload_n 0, 1) := dk_42 (dk_at dksX8_readPart_0 8 rfl rfl)
theorem dX8_readPart_9 : decode cX8_readPart 9 = .ok (.getfield 173, 3) := dk_180 0 173 (dk_at dksX8_readPart_0 9 rfl rfl)
theorem dX8_readPart_12 : decode cX8_readPart 12 = .ok (.iconst 2, 1) := dk_5 (dk_at dksX8_readPart_0 12 rfl rfl)
theorem dX8_readPart_13 : decode cX8_readPart 13 = .ok (.if_icmp .ne 16, 3) := dk_160 0 16 (dk_at dksX8_readPart_0 13 rfl rfl)
theorem dX8_readPart_16 : decode cX8_readPart 16 = .ok (.aload_n 0, 1) := dk_42 (dk_at dksX8_readPart_0 16 rfl rfl)
theorem dX8_readPart_17 : decode cX8_readPart 17 = .ok (.aload_n 0, 1) := dk_42 (dk_at dksX8_readPart_0 17 rfl rfl)
theorem dX8_readPart_18 : decode cX8_readPart 18 = .ok (.iconst 0, 1) := dk_3 (dk_at dksX8_readPart_0 18 rfl rfl)
theorem dX8_readPart_19 : decode cX8_readPart 19 = .ok (.sipush 9999, 3) := dk_17 39 15 (dk_at dksX8_readPart_0 19 rfl rfl)
theorem dX8_readPart_22 : decode cX8_readPart 22 = .ok (.invokevirtual 230, 3) := dk_182 0 230 (dk_at dksX8_readPart_1 0 rfl rfl)
theorem dX8_readPart_25 : decode cX8_readPart 25 = .ok (.invokevirtual 233, 3) := dk_182 0 233 (dk_at dksX8_readPart_1 3 rfl rfl)
theorem dX8_readPart_28 : decode cX8_readPart 28 = .ok (.return_, 1) := dk_177 (dk_at dksX8_readPart_1 6 rfl rfl)
theorem dX8_readPart_29 : decode cX8_readPart 29 = .ok (.aload_n 0, 1) := dk_42 (dk_at dksX8_readPart_1 7 rfl rfl)
theorem dX8_readPart_30 : decode cX8_readPart 30 = .ok (.getfield 173, 3) := dk_180 0 173 (dk_at dksX8_readPart_1 8 rfl rfl)
theorem dX8_readPart_33 : decode cX8_readPart 33 = .ok (.iconst 1, 1) := dk_4 (dk_at dksX8_readPart_1 11 rfl rfl)
theorem dX8_readPart_34 : decode cX8_readPart 34 = .ok (.if_icmp .ne 41, 3) := dk_160 0 41 (dk_at dksX8_readPart_1 12 rfl rfl)
theorem dX8_readPart_37 : decode cX8_readPart 37 = .ok (.aload_n 0, 1) := dk_42 (dk_at dksX8_readPart_1 15 rfl rfl)
theorem dX8_readPart_38 : decode cX8_readPart 38 = .ok (.aload_n 0, 1) := dk_42 (dk_at dksX8_readPart_1 16 rfl rfl)
theorem dX8_readPart_39 : decode cX8_readPart 39 = .ok (.getfield 31, 3) := dk_180 0 31 (dk_at dksX8_readPart_1 17 rfl rfl)
theorem dX8_readPart_42 : decode cX8_readPart 42 = .ok (.invokevirtual 236, 3) := dk_182 0 236 (dk_at dksX8_readPart_1 20 rfl rfl)
theorem dX8_readPart_45 : decode cX8_readPart 45 = .ok (.istore_n 2, 1) := dk_61 (dk_at dksX8_readPart_1 23 rfl rfl)
theorem dX8_readPart_46 : decode cX8_readPart 46 = .ok (.iload_n 2, 1) := dk_28 (dk_at dksX8_readPart_2 0 rfl rfl)
theorem dX8_readPart_47 : decode cX8_readPart 47 = .ok (.iconst (-1), 1) := dk_2 (dk_at dksX8_readPart_2 1 rfl rfl)
theorem dX8_readPart_48 : decode cX8_readPart 48 = .ok (.if_icmp .ne 8, 3) := dk_160 0 8 (dk_at dksX8_readPart_2 2 rfl rfl)
theorem dX8_readPart_51 : decode cX8_readPart 51 = .ok (.aload_n 0, 1) := dk_42 (dk_at dksX8_readPart_2 5 rfl rfl)
theorem dX8_readPart_52 : decode cX8_readPart 52 = .ok (.iconst 3, 1) := dk_6 (dk_at dksX8_readPart_2 6 rfl rfl)
theorem dX8_readPart_53 : decode cX8_readPart 53 = .ok (.invokevirtual 220, 3) := dk_182 0 220 (dk_at dksX8_readPart_2 7 rfl rfl)
theorem dX8_readPart_56 : decode cX8_readPart 56 = .ok (.aload_n 0, 1) := dk_42 (dk_at dksX8_readPart_2 10 rfl rfl)
theorem dX8_readPart_57 : decode cX8_readPart 57 = .ok (.iconst (-1), 1) := dk_2 (dk_at dksX8_readPart_2 11 rfl rfl)
theorem dX8_readPart_58 : decode cX8_readPart 58 = .ok (.iload_n 2, 1) := dk_28 (dk_at dksX8_readPart_2 12 rfl rfl)
theorem dX8_readPart_59 : decode cX8_readPart 59 = .ok (.isub, 1) := dk_100 (dk_at dksX8_readPart_2 13 rfl rfl)
theorem dX8_readPart_60 : decode cX8_readPart 60 = .ok (.invokevirtual 233, 3) := dk_182 0 233 (dk_at dksX8_readPart_2 14 rfl rfl)
theorem dX8_readPart_63 : decode cX8_readPart 63 = .ok (.aload_n 0, 1) := dk_42 (dk_at dksX8_readPart_2 17 rfl rfl)
theorem dX8_readPart_64 : decode cX8_readPart 64 = .ok (.getfield 199, 3) := dk_180 0 199 (dk_at dksX8_readPart_2 18 rfl rfl)
theorem dX8_readPart_67 : decode cX8_readPart 67 = .ok (.ifCond .ne 7, 3) := dk_154 0 7 (dk_at dksX8_readPart_2 21 rfl rfl)
theorem dX8_readPart_70 : decode cX8_readPart 70 = .ok (.aload_n 0, 1) := dk_42 (dk_at dksX8_readPart_3 0 rfl rfl)
theorem dX8_readPart_71 : decode cX8_readPart 71 = .ok (.invokevirtual 224, 3) := dk_182 0 224 (dk_at dksX8_readPart_3 1 rfl rfl)
theorem dX8_readPart_74 : decode cX8_readPart 74 = .ok (.return_, 1) := dk_177 (dk_at dksX8_readPart_3 4 rfl rfl)
theorem dX8_readPart_75 : decode cX8_readPart 75 = .ok (.aload_n 0, 1) := dk_42 (dk_at dksX8_readPart_3 5 rfl rfl)
theorem dX8_readPart_76 : decode cX8_readPart 76 = .ok (.bipush 40, 2) := dk_16 40 (dk_at dksX8_readPart_3 6 rfl rfl)
theorem dX8_readPart_78 : decode cX8_readPart 78 = .ok (.invokevirtual 240, 3) := dk_182 0 240 (dk_at dksX8_readPart_3 8 rfl rfl)
theorem dX8_readPart_81 : decode cX8_readPart 81 = .ok (.aload_n 0, 1) := dk_42 (dk_at dksX8_readPart_3 11 rfl rfl)
theorem dX8_readPart_82 : decode cX8_readPart 82 = .ok (.iload_n 1, 1) := dk_27 (dk_at dksX8_readPart_3 12 rfl rfl)
theorem dX8_readPart_83 : decode cX8_readPart 83 = .ok (.iconst 1, 1) := dk_4 (dk_at dksX8_readPart_3 13 rfl rfl)
theorem dX8_readPart_84 : decode cX8_readPart 84 = .ok (.iadd, 1) := dk_96 (dk_at dksX8_readPart_3 14 rfl rfl)
theorem dX8_readPart_85 : decode cX8_readPart 85 = .ok (.invokevirtual 243, 3) := dk_182 0 243 (dk_at dksX8_readPart_3 15 rfl rfl)
theorem dX8_readPart_88 : decode cX8_readPart 88 = .ok (.aload_n 0, 1) := dk_42 (dk_at dksX8_readPart_3 18 rfl rfl)
theorem dX8_readPart_89 : decode cX8_readPart 89 = .ok (.bipush 41, 2) := dk_16 41 (dk_at dksX8_readPart_3 19 rfl rfl)
theorem dX8_readPart_91 : decode cX8_readPart 91 = .ok (.invokevirtual 240, 3) := dk_182 0 240 (dk_at dksX8_readPart_3 21 rfl rfl)
theorem dX8_readPart_94 : decode cX8_readPart 94 = .ok (.return_, 1) := dk_177 (dk_at dksX8_readPart_4 0 rfl rfl)
abbrev cX8_lay : ByteArray := prog_20_method_22_code
def yX8_lay : MethodName := ⟨RX8, "lay", "(I)V"⟩
def dkwX8_lay_1 : List UInt8 := [79, 42, 180, 0, 34, 16, 13, 92, 46, 4, 96, 79, 177]
abbrev dktX8_lay_1 : List UInt8 := dkwX8_lay_1 ++ []
def dkwX8_lay_0 : List UInt8 := [42, 180, 0, 199, 153, 0, 4, 177, 42, 180, 0, 57, 17, 2, 88, 42, 180, 0, 34, 16, 13, 46, 96, 27]
abbrev dktX8_lay_0 : List UInt8 := dkwX8_lay_0 ++ dktX8_lay_1
theorem dksX8_lay_0 : cX8_lay.data.toList.drop 0 = dktX8_lay_0 := by decide +kernel
theorem dksX8_lay_1 : cX8_lay.data.toList.drop 24 = dktX8_lay_1 := dk_seg dksX8_lay_0 24 rfl rfl
theorem dX8_lay_0 : decode cX8_lay 0 = .ok (.aload_n 0, 1) := dk_42 (dk_at dksX8_lay_0 0 rfl rfl)
theorem dX8_lay_1 : decode cX8_lay 1 = .ok (.getfield 199, 3) := dk_180 0 199 (dk_at dksX8_lay_0 1 rfl rfl)
theorem dX8_lay_4 : decode cX8_lay 4 = .ok (.ifCond .eq 4, 3) := dk_153 0 4 (dk_at dksX8_lay_0 4 rfl rfl)
theorem dX8_lay_7 : decode cX8_lay 7 = .ok (.return_, 1) := dk_177 (dk_at dksX8_lay_0 7 rfl rfl)
theorem dX8_lay_8 : decode cX8_lay 8 = .ok (.aload_n 0, 1) := dk_42 (dk_at dksX8_lay_0 8 rfl rfl)
theorem dX8_lay_9 : decode cX8_lay 9 = .ok (.getfield 57, 3) := dk_180 0 57 (dk_at dksX8_lay_0 9 rfl rfl)
theorem dX8_lay_12 : decode cX8_lay 12 = .ok (.sipush 600, 3) := dk_17 2 88 (dk_at dksX8_lay_0 12 rfl rfl)
theorem dX8_lay_15 : decode cX8_lay 15 = .ok (.aload_n 0, 1) := dk_42 (dk_at dksX8_lay_0 15 rfl rfl)
theorem dX8_lay_16 : decode cX8_lay 16 = .ok (.getfield 34, 3) := dk_180 0 34 (dk_at dksX8_lay_0 16 rfl rfl)
theorem dX8_lay_19 : decode cX8_lay 19 = .ok (.bipush 13, 2) := dk_16 13 (dk_at dksX8_lay_0 19 rfl rfl)
theorem dX8_lay_21 : decode cX8_lay 21 = .ok (.iaload, 1) := dk_46 (dk_at dksX8_lay_0 21 rfl rfl)
theorem dX8_lay_22 : decode cX8_lay 22 = .ok (.iadd, 1) := dk_96 (dk_at dksX8_lay_0 22 rfl rfl)
theorem dX8_lay_23 : decode cX8_lay 23 = .ok (.iload_n 1, 1) := dk_27 (dk_at dksX8_lay_0 23 rfl rfl)
theorem dX8_lay_24 : decode cX8_lay 24 = .ok (.iastore, 1) := dk_79 (dk_at dksX8_lay_1 0 rfl rfl)
theorem dX8_lay_25 : decode cX8_lay 25 = .ok (.aload_n 0, 1) := dk_42 (dk_at dksX8_lay_1 1 rfl rfl)
theorem dX8_lay_26 : decode cX8_lay 26 = .ok (.getfield 34, 3) := dk_180 0 34 (dk_at dksX8_lay_1 2 rfl rfl)
theorem dX8_lay_29 : decode cX8_lay 29 = .ok (.bipush 13, 2) := dk_16 13 (dk_at dksX8_lay_1 5 rfl rfl)
theorem dX8_lay_31 : decode cX8_lay 31 = .ok (.dup2, 1) := dk_92 (dk_at dksX8_lay_1 7 rfl rfl)
theorem dX8_lay_32 : decode cX8_lay 32 = .ok (.iaload, 1) := dk_46 (dk_at dksX8_lay_1 8 rfl rfl)
theorem dX8_lay_33 : decode cX8_lay 33 = .ok (.iconst 1, 1) := dk_4 (dk_at dksX8_lay_1 9 rfl rfl)
theorem dX8_lay_34 : decode cX8_lay 34 = .ok (.iadd, 1) := dk_96 (dk_at dksX8_lay_1 10 rfl rfl)
theorem dX8_lay_35 : decode cX8_lay 35 = .ok (.iastore, 1) := dk_79 (dk_at dksX8_lay_1 11 rfl rfl)
theorem dX8_lay_36 : decode cX8_lay 36 = .ok (.return_, 1) := dk_177 (dk_at dksX8_lay_1 12 rfl rfl)
abbrev cX8_mark : ByteArray := prog_20_method_18_code
def yX8_mark : MethodName := ⟨RX8, "mark", "(I)V"⟩
def dkwX8_mark_1 : List UInt8 := [154, 0, 7, 42, 182, 0, 224, 177]
abbrev dktX8_mark_1 : List UInt8 := dkwX8_mark_1 ++ []
def dkwX8_mark_0 : List UInt8 := [42, 180, 0, 199, 154, 0, 16, 42, 27, 182, 0, 217, 154, 0, 8, 42, 4, 182, 0, 220, 42, 180, 0, 199]
abbrev dktX8_mark_0 : List UInt8 := dkwX8_mark_0 ++ dktX8_mark_1
theorem dksX8_mark_0 : cX8_mark.data.toList.drop 0 = dktX8_mark_0 := by decide +kernel
theorem dksX8_mark_1 : cX8_mark.data.toList.drop 24 = dktX8_mark_1 := dk_seg dksX8_mark_0 24 rfl rfl
theorem dX8_mark_0 : decode cX8_mark 0 = .ok (.aload_n 0, 1) := dk_42 (dk_at dksX8_mark_0 0 rfl rfl)
theorem dX8_mark_1 : decode cX8_mark 1 = .ok (.getfield 199, 3) := dk_180 0 199 (dk_at dksX8_mark_0 1 rfl rfl)
theorem dX8_mark_4 : decode cX8_mark 4 = .ok (.ifCond .ne 16, 3) := dk_154 0 16 (dk_at dksX8_mark_0 4 rfl rfl)
theorem dX8_mark_7 : decode cX8_mark 7 = .ok (.aload_n 0, 1) := dk_42 (dk_at dksX8_mark_0 7 rfl rfl)
theorem dX8_mark_8 : decode cX8_mark 8 = .ok (.iload_n 1, 1) := dk_27 (dk_at dksX8_mark_0 8 rfl rfl)
theorem dX8_mark_9 : decode cX8_mark 9 = .ok (.invokevirtual 217, 3) := dk_182 0 217 (dk_at dksX8_mark_0 9 rfl rfl)
theorem dX8_mark_12 : decode cX8_mark 12 = .ok (.ifCond .ne 8, 3) := dk_154 0 8 (dk_at dksX8_mark_0 12 rfl rfl)
theorem dX8_mark_15 : decode cX8_mark 15 = .ok (.aload_n 0, 1) := dk_42 (dk_at dksX8_mark_0 15 rfl rfl)
theorem dX8_mark_16 : decode cX8_mark 16 = .ok (.iconst 1, 1) := dk_4 (dk_at dksX8_mark_0 16 rfl rfl)
theorem dX8_mark_17 : decode cX8_mark 17 = .ok (.invokevirtual 220, 3) := dk_182 0 220 (dk_at dksX8_mark_0 17 rfl rfl)
theorem dX8_mark_20 : decode cX8_mark 20 = .ok (.aload_n 0, 1) := dk_42 (dk_at dksX8_mark_0 20 rfl rfl)
theorem dX8_mark_21 : decode cX8_mark 21 = .ok (.getfield 199, 3) := dk_180 0 199 (dk_at dksX8_mark_0 21 rfl rfl)
theorem dX8_mark_24 : decode cX8_mark 24 = .ok (.ifCond .ne 7, 3) := dk_154 0 7 (dk_at dksX8_mark_1 0 rfl rfl)
theorem dX8_mark_27 : decode cX8_mark 27 = .ok (.aload_n 0, 1) := dk_42 (dk_at dksX8_mark_1 3 rfl rfl)
theorem dX8_mark_28 : decode cX8_mark 28 = .ok (.invokevirtual 224, 3) := dk_182 0 224 (dk_at dksX8_mark_1 4 rfl rfl)
theorem dX8_mark_31 : decode cX8_mark 31 = .ok (.return_, 1) := dk_177 (dk_at dksX8_mark_1 7 rfl rfl)
abbrev cX8_readJudge : ByteArray := prog_20_method_33_code
def yX8_readJudge : MethodName := ⟨RX8, "readJudge", "(I)V"⟩
def dkwX8_readJudge_8 : List UInt8 := [180, 0, 49, 28, 29, 79, 42, 180, 0, 34, 16, 11, 92, 46, 4, 96, 79, 177]
abbrev dktX8_readJudge_8 : List UInt8 := dkwX8_readJudge_8 ++ []
def dkwX8_readJudge_7 : List UInt8 := [42, 180, 0, 52, 16, 7, 28, 104, 29, 96, 21, 4, 79, 132, 3, 1, 42, 182, 0, 224, 167, 255, 148, 42]
abbrev dktX8_readJudge_7 : List UInt8 := dkwX8_readJudge_7 ++ dktX8_readJudge_8
def dkwX8_readJudge_6 : List UInt8 := [184, 1, 20, 96, 46, 154, 0, 9, 42, 16, 6, 182, 0, 220, 42, 180, 0, 199, 153, 0, 6, 167, 255, 171]
abbrev dktX8_readJudge_6 : List UInt8 := dkwX8_readJudge_6 ++ dktX8_readJudge_7
def dkwX8_readJudge_5 : List UInt8 := [158, 0, 38, 42, 180, 0, 38, 16, 81, 42, 180, 0, 52, 16, 7, 28, 104, 29, 96, 4, 100, 46, 21, 4]
abbrev dktX8_readJudge_5 : List UInt8 := dkwX8_readJudge_5 ++ dktX8_readJudge_6
def dkwX8_readJudge_4 : List UInt8 := [160, 0, 8, 42, 5, 182, 0, 220, 42, 182, 1, 17, 54, 4, 42, 180, 0, 199, 154, 0, 42, 29]
abbrev dktX8_readJudge_4 : List UInt8 := dkwX8_readJudge_4 ++ dktX8_readJudge_5
def dkwX8_readJudge_3 : List UInt8 := [4, 182, 0, 220, 42, 180, 0, 199, 154, 0, 107, 42, 180, 0, 173, 5, 160, 0, 99, 29, 16, 7]
abbrev dktX8_readJudge_3 : List UInt8 := dkwX8_readJudge_3 ++ dktX8_readJudge_4
def dkwX8_readJudge_2 : List UInt8 := [16, 9, 182, 0, 230, 79, 3, 62, 42, 180, 0, 199, 154, 0, 16, 42, 180, 0, 173, 5, 159, 0, 8, 42]
abbrev dktX8_readJudge_2 : List UInt8 := dkwX8_readJudge_2 ++ dktX8_readJudge_3
def dkwX8_readJudge_1 : List UInt8 := [28, 27, 79, 42, 180, 0, 44, 28, 42, 3, 16, 60, 182, 0, 230, 79, 42, 180, 0, 47, 28, 42, 3]
abbrev dktX8_readJudge_1 : List UInt8 := dkwX8_readJudge_1 ++ dktX8_readJudge_2
def dkwX8_readJudge_0 : List UInt8 := [42, 7, 8, 182, 1, 11, 154, 0, 4, 177, 8, 42, 180, 0, 34, 16, 11, 46, 96, 61, 42, 180, 0, 41]
abbrev dktX8_readJudge_0 : List UInt8 := dkwX8_readJudge_0 ++ dktX8_readJudge_1
theorem dksX8_readJudge_0 : cX8_readJudge.data.toList.drop 0 = dktX8_readJudge_0 := by decide +kernel
theorem dksX8_readJudge_1 : cX8_readJudge.data.toList.drop 24 = dktX8_readJudge_1 := dk_seg dksX8_readJudge_0 24 rfl rfl
theorem dksX8_readJudge_2 : cX8_readJudge.data.toList.drop 47 = dktX8_readJudge_2 := dk_seg dksX8_readJudge_1 23 rfl rfl
theorem dksX8_readJudge_3 : cX8_readJudge.data.toList.drop 71 = dktX8_readJudge_3 := dk_seg dksX8_readJudge_2 24 rfl rfl
theorem dksX8_readJudge_4 : cX8_readJudge.data.toList.drop 93 = dktX8_readJudge_4 := dk_seg dksX8_readJudge_3 22 rfl rfl
theorem dksX8_readJudge_5 : cX8_readJudge.data.toList.drop 115 = dktX8_readJudge_5 := dk_seg dksX8_readJudge_4 22 rfl rfl
theorem dksX8_readJudge_6 : cX8_readJudge.data.toList.drop 139 = dktX8_readJudge_6 := dk_seg dksX8_readJudge_5 24 rfl rfl
theorem dksX8_readJudge_7 : cX8_readJudge.data.toList.drop 163 = dktX8_readJudge_7 := dk_seg dksX8_readJudge_6 24 rfl rfl
theorem dksX8_readJudge_8 : cX8_readJudge.data.toList.drop 187 = dktX8_readJudge_8 := dk_seg dksX8_readJudge_7 24 rfl rfl
theorem dX8_readJudge_0 : decode cX8_readJudge 0 = .ok (.aload_n 0, 1) := dk_42 (dk_at dksX8_readJudge_0 0 rfl rfl)
theorem dX8_readJudge_1 : decode cX8_readJudge 1 = .ok (.iconst 4, 1) := dk_7 (dk_at dksX8_readJudge_0 1 rfl rfl)
theorem dX8_readJudge_2 : decode cX8_readJudge 2 = .ok (.iconst 5, 1) := dk_8 (dk_at dksX8_readJudge_0 2 rfl rfl)
theorem dX8_readJudge_3 : decode cX8_readJudge 3 = .ok (.invokevirtual 267, 3) := dk_182 1 11 (dk_at dksX8_readJudge_0 3 rfl rfl)
theorem dX8_readJudge_6 : decode cX8_readJudge 6 = .ok (.ifCond .ne 4, 3) := dk_154 0 4 (dk_at dksX8_readJudge_0 6 rfl rfl)
theorem dX8_readJudge_9 : decode cX8_readJudge 9 = .ok (.return_, 1) := dk_177 (dk_at dksX8_readJudge_0 9 rfl rfl)
theorem dX8_readJudge_10 : decode cX8_readJudge 10 = .ok (.iconst 5, 1) := dk_8 (dk_at dksX8_readJudge_0 10 rfl rfl)
theorem dX8_readJudge_11 : decode cX8_readJudge 11 = .ok (.aload_n 0, 1) := dk_42 (dk_at dksX8_readJudge_0 11 rfl rfl)
theorem dX8_readJudge_12 : decode cX8_readJudge 12 = .ok (.getfield 34, 3) := dk_180 0 34 (dk_at dksX8_readJudge_0 12 rfl rfl)
theorem dX8_readJudge_15 : decode cX8_readJudge 15 = .ok (.bipush 11, 2) := dk_16 11 (dk_at dksX8_readJudge_0 15 rfl rfl)
theorem dX8_readJudge_17 : decode cX8_readJudge 17 = .ok (.iaload, 1) := dk_46 (dk_at dksX8_readJudge_0 17 rfl rfl)
theorem dX8_readJudge_18 : decode cX8_readJudge 18 = .ok (.iadd, 1) := dk_96 (dk_at dksX8_readJudge_0 18 rfl rfl)
theorem dX8_readJudge_19 : decode cX8_readJudge 19 = .ok (.istore_n 2, 1) := dk_61 (dk_at dksX8_readJudge_0 19 rfl rfl)
theorem dX8_readJudge_20 : decode cX8_readJudge 20 = .ok (.aload_n 0, 1) := dk_42 (dk_at dksX8_readJudge_0 20 rfl rfl)
theorem dX8_readJudge_21 : decode cX8_readJudge 21 = .ok (.getfield 41, 3) := dk_180 0 41 (dk_at dksX8_readJudge_0 21 rfl rfl)
theorem dX8_readJudge_24 : decode cX8_readJudge 24 = .ok (.iload_n 2, 1) := dk_28 (dk_at dksX8_readJudge_1 0 rfl rfl)
theorem dX8_readJudge_25 : decode cX8_readJudge 25 = .ok (.iload_n 1, 1) := dk_27 (dk_at dksX8_readJudge_1 1 rfl rfl)
theorem dX8_readJudge_26 : decode cX8_readJudge 26 = .ok (.iastore, 1) := dk_79 (dk_at dksX8_readJudge_1 2 rfl rfl)
theorem dX8_readJudge_27 : decode cX8_readJudge 27 = .ok (.aload_n 0, 1) := dk_42 (dk_at dksX8_readJudge_1 3 rfl rfl)
theorem dX8_readJudge_28 : decode cX8_readJudge 28 = .ok (.getfield 44, 3) := dk_180 0 44 (dk_at dksX8_readJudge_1 4 rfl rfl)
theorem dX8_readJudge_31 : decode cX8_readJudge 31 = .ok (.iload_n 2, 1) := dk_28 (dk_at dksX8_readJudge_1 7 rfl rfl)
theorem dX8_readJudge_32 : decode cX8_readJudge 32 = .ok (.aload_n 0, 1) := dk_42 (dk_at dksX8_readJudge_1 8 rfl rfl)
theorem dX8_readJudge_33 : decode cX8_readJudge 33 = .ok (.iconst 0, 1) := dk_3 (dk_at dksX8_readJudge_1 9 rfl rfl)
theorem dX8_readJudge_34 : decode cX8_readJudge 34 = .ok (.bipush 60, 2) := dk_16 60 (dk_at dksX8_readJudge_1 10 rfl rfl)
theorem dX8_readJudge_36 : decode cX8_readJudge 36 = .ok (.invokevirtual 230, 3) := dk_182 0 230 (dk_at dksX8_readJudge_1 12 rfl rfl)
theorem dX8_readJudge_39 : decode cX8_readJudge 39 = .ok (.iastore, 1) := dk_79 (dk_at dksX8_readJudge_1 15 rfl rfl)
theorem dX8_readJudge_40 : decode cX8_readJudge 40 = .ok (.aload_n 0, 1) := dk_42 (dk_at dksX8_readJudge_1 16 rfl rfl)
theorem dX8_readJudge_41 : decode cX8_readJudge 41 = .ok (.getfield 47, 3) := dk_180 0 47 (dk_at dksX8_readJudge_1 17 rfl rfl)
theorem dX8_readJudge_44 : decode cX8_readJudge 44 = .ok (.iload_n 2, 1) := dk_28 (dk_at dksX8_readJudge_1 20 rfl rfl)
theorem dX8_readJudge_45 : decode cX8_readJudge 45 = .ok (.aload_n 0, 1) := dk_42 (dk_at dksX8_readJudge_1 21 rfl rfl)
theorem dX8_readJudge_46 : decode cX8_readJudge 46 = .ok (.iconst 0, 1) := dk_3 (dk_at dksX8_readJudge_1 22 rfl rfl)
theorem dX8_readJudge_47 : decode cX8_readJudge 47 = .ok (.bipush 9, 2) := dk_16 9 (dk_at dksX8_readJudge_2 0 rfl rfl)
theorem dX8_readJudge_49 : decode cX8_readJudge 49 = .ok (.invokevirtual 230, 3) := dk_182 0 230 (dk_at dksX8_readJudge_2 2 rfl rfl)
theorem dX8_readJudge_52 : decode cX8_readJudge 52 = .ok (.iastore, 1) := dk_79 (dk_at dksX8_readJudge_2 5 rfl rfl)
theorem dX8_readJudge_53 : decode cX8_readJudge 53 = .ok (.iconst 0, 1) := dk_3 (dk_at dksX8_readJudge_2 6 rfl rfl)
theorem dX8_readJudge_54 : decode cX8_readJudge 54 = .ok (.istore_n 3, 1) := dk_62 (dk_at dksX8_readJudge_2 7 rfl rfl)
theorem dX8_readJudge_55 : decode cX8_readJudge 55 = .ok (.aload_n 0, 1) := dk_42 (dk_at dksX8_readJudge_2 8 rfl rfl)
theorem dX8_readJudge_56 : decode cX8_readJudge 56 = .ok (.getfield 199, 3) := dk_180 0 199 (dk_at dksX8_readJudge_2 9 rfl rfl)
theorem dX8_readJudge_59 : decode cX8_readJudge 59 = .ok (.ifCond .ne 16, 3) := dk_154 0 16 (dk_at dksX8_readJudge_2 12 rfl rfl)
theorem dX8_readJudge_62 : decode cX8_readJudge 62 = .ok (.aload_n 0, 1) := dk_42 (dk_at dksX8_readJudge_2 15 rfl rfl)
theorem dX8_readJudge_63 : decode cX8_readJudge 63 = .ok (.getfield 173, 3) := dk_180 0 173 (dk_at dksX8_readJudge_2 16 rfl rfl)
theorem dX8_readJudge_66 : decode cX8_readJudge 66 = .ok (.iconst 2, 1) := dk_5 (dk_at dksX8_readJudge_2 19 rfl rfl)
theorem dX8_readJudge_67 : decode cX8_readJudge 67 = .ok (.if_icmp .eq 8, 3) := dk_159 0 8 (dk_at dksX8_readJudge_2 20 rfl rfl)
theorem dX8_readJudge_70 : decode cX8_readJudge 70 = .ok (.aload_n 0, 1) := dk_42 (dk_at dksX8_readJudge_2 23 rfl rfl)
theorem dX8_readJudge_71 : decode cX8_readJudge 71 = .ok (.iconst 1, 1) := dk_4 (dk_at dksX8_readJudge_3 0 rfl rfl)
theorem dX8_readJudge_72 : decode cX8_readJudge 72 = .ok (.invokevirtual 220, 3) := dk_182 0 220 (dk_at dksX8_readJudge_3 1 rfl rfl)
theorem dX8_readJudge_75 : decode cX8_readJudge 75 = .ok (.aload_n 0, 1) := dk_42 (dk_at dksX8_readJudge_3 4 rfl rfl)
theorem dX8_readJudge_76 : decode cX8_readJudge 76 = .ok (.getfield 199, 3) := dk_180 0 199 (dk_at dksX8_readJudge_3 5 rfl rfl)
theorem dX8_readJudge_79 : decode cX8_readJudge 79 = .ok (.ifCond .ne 107, 3) := dk_154 0 107 (dk_at dksX8_readJudge_3 8 rfl rfl)
theorem dX8_readJudge_82 : decode cX8_readJudge 82 = .ok (.aload_n 0, 1) := dk_42 (dk_at dksX8_readJudge_3 11 rfl rfl)
theorem dX8_readJudge_83 : decode cX8_readJudge 83 = .ok (.getfield 173, 3) := dk_180 0 173 (dk_at dksX8_readJudge_3 12 rfl rfl)
theorem dX8_readJudge_86 : decode cX8_readJudge 86 = .ok (.iconst 2, 1) := dk_5 (dk_at dksX8_readJudge_3 15 rfl rfl)
theorem dX8_readJudge_87 : decode cX8_readJudge 87 = .ok (.if_icmp .ne 99, 3) := dk_160 0 99 (dk_at dksX8_readJudge_3 16 rfl rfl)
theorem dX8_readJudge_90 : decode cX8_readJudge 90 = .ok (.iload_n 3, 1) := dk_29 (dk_at dksX8_readJudge_3 19 rfl rfl)
theorem dX8_readJudge_91 : decode cX8_readJudge 91 = .ok (.bipush 7, 2) := dk_16 7 (dk_at dksX8_readJudge_3 20 rfl rfl)
theorem dX8_readJudge_93 : decode cX8_readJudge 93 = .ok (.if_icmp .ne 8, 3) := dk_160 0 8 (dk_at dksX8_readJudge_4 0 rfl rfl)
theorem dX8_readJudge_96 : decode cX8_readJudge 96 = .ok (.aload_n 0, 1) := dk_42 (dk_at dksX8_readJudge_4 3 rfl rfl)
theorem dX8_readJudge_97 : decode cX8_readJudge 97 = .ok (.iconst 2, 1) := dk_5 (dk_at dksX8_readJudge_4 4 rfl rfl)
theorem dX8_readJudge_98 : decode cX8_readJudge 98 = .ok (.invokevirtual 220, 3) := dk_182 0 220 (dk_at dksX8_readJudge_4 5 rfl rfl)
theorem dX8_readJudge_101 : decode cX8_readJudge 101 = .ok (.aload_n 0, 1) := dk_42 (dk_at dksX8_readJudge_4 8 rfl rfl)
theorem dX8_readJudge_102 : decode cX8_readJudge 102 = .ok (.invokevirtual 273, 3) := dk_182 1 17 (dk_at dksX8_readJudge_4 9 rfl rfl)
theorem dX8_readJudge_105 : decode cX8_readJudge 105 = .ok (.istore 4, 2) := dk_54 4 (dk_at dksX8_readJudge_4 12 rfl rfl)
theorem dX8_readJudge_107 : decode cX8_readJudge 107 = .ok (.aload_n 0, 1) := dk_42 (dk_at dksX8_readJudge_4 14 rfl rfl)
theorem dX8_readJudge_108 : decode cX8_readJudge 108 = .ok (.getfield 199, 3) := dk_180 0 199 (dk_at dksX8_readJudge_4 15 rfl rfl)
theorem dX8_readJudge_111 : decode cX8_readJudge 111 = .ok (.ifCond .ne 42, 3) := dk_154 0 42 (dk_at dksX8_readJudge_4 18 rfl rfl)
theorem dX8_readJudge_114 : decode cX8_readJudge 114 = .ok (.iload_n 3, 1) := dk_29 (dk_at dksX8_readJudge_4 21 rfl rfl)
theorem dX8_readJudge_115 : decode cX8_readJudge 115 = .ok (.ifCond .le 38, 3) := dk_158 0 38 (dk_at dksX8_readJudge_5 0 rfl rfl)
theorem dX8_readJudge_118 : decode cX8_readJudge 118 = .ok (.aload_n 0, 1) := dk_42 (dk_at dksX8_readJudge_5 3 rfl rfl)
theorem dX8_readJudge_119 : decode cX8_readJudge 119 = .ok (.getfield 38, 3) := dk_180 0 38 (dk_at dksX8_readJudge_5 4 rfl rfl)
theorem dX8_readJudge_122 : decode cX8_readJudge 122 = .ok (.bipush 81, 2) := dk_16 81 (dk_at dksX8_readJudge_5 7 rfl rfl)
theorem dX8_readJudge_124 : decode cX8_readJudge 124 = .ok (.aload_n 0, 1) := dk_42 (dk_at dksX8_readJudge_5 9 rfl rfl)
theorem dX8_readJudge_125 : decode cX8_readJudge 125 = .ok (.getfield 52, 3) := dk_180 0 52 (dk_at dksX8_readJudge_5 10 rfl rfl)
theorem dX8_readJudge_128 : decode cX8_readJudge 128 = .ok (.bipush 7, 2) := dk_16 7 (dk_at dksX8_readJudge_5 13 rfl rfl)
theorem dX8_readJudge_130 : decode cX8_readJudge 130 = .ok (.iload_n 2, 1) := dk_28 (dk_at dksX8_readJudge_5 15 rfl rfl)
theorem dX8_readJudge_131 : decode cX8_readJudge 131 = .ok (.imul, 1) := dk_104 (dk_at dksX8_readJudge_5 16 rfl rfl)
theorem dX8_readJudge_132 : decode cX8_readJudge 132 = .ok (.iload_n 3, 1) := dk_29 (dk_at dksX8_readJudge_5 17 rfl rfl)
theorem dX8_readJudge_133 : decode cX8_readJudge 133 = .ok (.iadd, 1) := dk_96 (dk_at dksX8_readJudge_5 18 rfl rfl)
theorem dX8_readJudge_134 : decode cX8_readJudge 134 = .ok (.iconst 1, 1) := dk_4 (dk_at dksX8_readJudge_5 19 rfl rfl)
theorem dX8_readJudge_135 : decode cX8_readJudge 135 = .ok (.isub, 1) := dk_100 (dk_at dksX8_readJudge_5 20 rfl rfl)
theorem dX8_readJudge_136 : decode cX8_readJudge 136 = .ok (.iaload, 1) := dk_46 (dk_at dksX8_readJudge_5 21 rfl rfl)
theorem dX8_readJudge_137 : decode cX8_readJudge 137 = .ok (.iload 4, 2) := dk_21 4 (dk_at dksX8_readJudge_5 22 rfl rfl)
theorem dX8_readJudge_139 : decode cX8_readJudge 139 = .ok (.invokestatic 276, 3) := dk_184 1 20 (dk_at dksX8_readJudge_6 0 rfl rfl)
theorem dX8_readJudge_142 : decode cX8_readJudge 142 = .ok (.iadd, 1) := dk_96 (dk_at dksX8_readJudge_6 3 rfl rfl)
theorem dX8_readJudge_143 : decode cX8_readJudge 143 = .ok (.iaload, 1) := dk_46 (dk_at dksX8_readJudge_6 4 rfl rfl)
theorem dX8_readJudge_144 : decode cX8_readJudge 144 = .ok (.ifCond .ne 9, 3) := dk_154 0 9 (dk_at dksX8_readJudge_6 5 rfl rfl)
theorem dX8_readJudge_147 : decode cX8_readJudge 147 = .ok (.aload_n 0, 1) := dk_42 (dk_at dksX8_readJudge_6 8 rfl rfl)
theorem dX8_readJudge_148 : decode cX8_readJudge 148 = .ok (.bipush 6, 2) := dk_16 6 (dk_at dksX8_readJudge_6 9 rfl rfl)
theorem dX8_readJudge_150 : decode cX8_readJudge 150 = .ok (.invokevirtual 220, 3) := dk_182 0 220 (dk_at dksX8_readJudge_6 11 rfl rfl)
theorem dX8_readJudge_153 : decode cX8_readJudge 153 = .ok (.aload_n 0, 1) := dk_42 (dk_at dksX8_readJudge_6 14 rfl rfl)
theorem dX8_readJudge_154 : decode cX8_readJudge 154 = .ok (.getfield 199, 3) := dk_180 0 199 (dk_at dksX8_readJudge_6 15 rfl rfl)
theorem dX8_readJudge_157 : decode cX8_readJudge 157 = .ok (.ifCond .eq 6, 3) := dk_153 0 6 (dk_at dksX8_readJudge_6 18 rfl rfl)
theorem dX8_readJudge_160 : decode cX8_readJudge 160 = .ok (.goto (-85), 3) := dk_167 255 171 (dk_at dksX8_readJudge_6 21 rfl rfl)
theorem dX8_readJudge_163 : decode cX8_readJudge 163 = .ok (.aload_n 0, 1) := dk_42 (dk_at dksX8_readJudge_7 0 rfl rfl)
theorem dX8_readJudge_164 : decode cX8_readJudge 164 = .ok (.getfield 52, 3) := dk_180 0 52 (dk_at dksX8_readJudge_7 1 rfl rfl)
theorem dX8_readJudge_167 : decode cX8_readJudge 167 = .ok (.bipush 7, 2) := dk_16 7 (dk_at dksX8_readJudge_7 4 rfl rfl)
theorem dX8_readJudge_169 : decode cX8_readJudge 169 = .ok (.iload_n 2, 1) := dk_28 (dk_at dksX8_readJudge_7 6 rfl rfl)
theorem dX8_readJudge_170 : decode cX8_readJudge 170 = .ok (.imul, 1) := dk_104 (dk_at dksX8_readJudge_7 7 rfl rfl)
theorem dX8_readJudge_171 : decode cX8_readJudge 171 = .ok (.iload_n 3, 1) := dk_29 (dk_at dksX8_readJudge_7 8 rfl rfl)
theorem dX8_readJudge_172 : decode cX8_readJudge 172 = .ok (.iadd, 1) := dk_96 (dk_at dksX8_readJudge_7 9 rfl rfl)
theorem dX8_readJudge_173 : decode cX8_readJudge 173 = .ok (.iload 4, 2) := dk_21 4 (dk_at dksX8_readJudge_7 10 rfl rfl)
theorem dX8_readJudge_175 : decode cX8_readJudge 175 = .ok (.iastore, 1) := dk_79 (dk_at dksX8_readJudge_7 12 rfl rfl)
theorem dX8_readJudge_176 : decode cX8_readJudge 176 = .ok (.iinc 3 1, 3) := dk_132 3 1 (dk_at dksX8_readJudge_7 13 rfl rfl)
theorem dX8_readJudge_179 : decode cX8_readJudge 179 = .ok (.aload_n 0, 1) := dk_42 (dk_at dksX8_readJudge_7 16 rfl rfl)
theorem dX8_readJudge_180 : decode cX8_readJudge 180 = .ok (.invokevirtual 224, 3) := dk_182 0 224 (dk_at dksX8_readJudge_7 17 rfl rfl)
theorem dX8_readJudge_183 : decode cX8_readJudge 183 = .ok (.goto (-108), 3) := dk_167 255 148 (dk_at dksX8_readJudge_7 20 rfl rfl)
theorem dX8_readJudge_186 : decode cX8_readJudge 186 = .ok (.aload_n 0, 1) := dk_42 (dk_at dksX8_readJudge_7 23 rfl rfl)
theorem dX8_readJudge_187 : decode cX8_readJudge 187 = .ok (.getfield 49, 3) := dk_180 0 49 (dk_at dksX8_readJudge_8 0 rfl rfl)
theorem dX8_readJudge_190 : decode cX8_readJudge 190 = .ok (.iload_n 2, 1) := dk_28 (dk_at dksX8_readJudge_8 3 rfl rfl)
theorem dX8_readJudge_191 : decode cX8_readJudge 191 = .ok (.iload_n 3, 1) := dk_29 (dk_at dksX8_readJudge_8 4 rfl rfl)
theorem dX8_readJudge_192 : decode cX8_readJudge 192 = .ok (.iastore, 1) := dk_79 (dk_at dksX8_readJudge_8 5 rfl rfl)
theorem dX8_readJudge_193 : decode cX8_readJudge 193 = .ok (.aload_n 0, 1) := dk_42 (dk_at dksX8_readJudge_8 6 rfl rfl)
theorem dX8_readJudge_194 : decode cX8_readJudge 194 = .ok (.getfield 34, 3) := dk_180 0 34 (dk_at dksX8_readJudge_8 7 rfl rfl)
theorem dX8_readJudge_197 : decode cX8_readJudge 197 = .ok (.bipush 11, 2) := dk_16 11 (dk_at dksX8_readJudge_8 10 rfl rfl)
theorem dX8_readJudge_199 : decode cX8_readJudge 199 = .ok (.dup2, 1) := dk_92 (dk_at dksX8_readJudge_8 12 rfl rfl)
theorem dX8_readJudge_200 : decode cX8_readJudge 200 = .ok (.iaload, 1) := dk_46 (dk_at dksX8_readJudge_8 13 rfl rfl)
theorem dX8_readJudge_201 : decode cX8_readJudge 201 = .ok (.iconst 1, 1) := dk_4 (dk_at dksX8_readJudge_8 14 rfl rfl)
theorem dX8_readJudge_202 : decode cX8_readJudge 202 = .ok (.iadd, 1) := dk_96 (dk_at dksX8_readJudge_8 15 rfl rfl)
theorem dX8_readJudge_203 : decode cX8_readJudge 203 = .ok (.iastore, 1) := dk_79 (dk_at dksX8_readJudge_8 16 rfl rfl)
theorem dX8_readJudge_204 : decode cX8_readJudge 204 = .ok (.return_, 1) := dk_177 (dk_at dksX8_readJudge_8 17 rfl rfl)
abbrev cX8_another : ByteArray := prog_20_method_29_code
def yX8_another : MethodName := ⟨RX8, "another", "(II)Z"⟩
def dkwX8_another_1 : List UInt8 := [153, 0, 5, 3, 172, 42, 182, 0, 224, 4, 172]
abbrev dktX8_another_1 : List UInt8 := dkwX8_another_1 ++ []
def dkwX8_another_0 : List UInt8 := [42, 180, 0, 34, 16, 7, 27, 96, 46, 28, 160, 0, 8, 42, 5, 182, 0, 220, 42, 180, 0, 199]
abbrev dktX8_another_0 : List UInt8 := dkwX8_another_0 ++ dktX8_another_1
theorem dksX8_another_0 : cX8_another.data.toList.drop 0 = dktX8_another_0 := by decide +kernel
theorem dksX8_another_1 : cX8_another.data.toList.drop 22 = dktX8_another_1 := dk_seg dksX8_another_0 22 rfl rfl
theorem dX8_another_0 : decode cX8_another 0 = .ok (.aload_n 0, 1) := dk_42 (dk_at dksX8_another_0 0 rfl rfl)
theorem dX8_another_1 : decode cX8_another 1 = .ok (.getfield 34, 3) := dk_180 0 34 (dk_at dksX8_another_0 1 rfl rfl)
theorem dX8_another_4 : decode cX8_another 4 = .ok (.bipush 7, 2) := dk_16 7 (dk_at dksX8_another_0 4 rfl rfl)
theorem dX8_another_6 : decode cX8_another 6 = .ok (.iload_n 1, 1) := dk_27 (dk_at dksX8_another_0 6 rfl rfl)
theorem dX8_another_7 : decode cX8_another 7 = .ok (.iadd, 1) := dk_96 (dk_at dksX8_another_0 7 rfl rfl)
theorem dX8_another_8 : decode cX8_another 8 = .ok (.iaload, 1) := dk_46 (dk_at dksX8_another_0 8 rfl rfl)
theorem dX8_another_9 : decode cX8_another 9 = .ok (.iload_n 2, 1) := dk_28 (dk_at dksX8_another_0 9 rfl rfl)
theorem dX8_another_10 : decode cX8_another 10 = .ok (.if_icmp .ne 8, 3) := dk_160 0 8 (dk_at dksX8_another_0 10 rfl rfl)
theorem dX8_another_13 : decode cX8_another 13 = .ok (.aload_n 0, 1) := dk_42 (dk_at dksX8_another_0 13 rfl rfl)
theorem dX8_another_14 : decode cX8_another 14 = .ok (.iconst 2, 1) := dk_5 (dk_at dksX8_another_0 14 rfl rfl)
theorem dX8_another_15 : decode cX8_another 15 = .ok (.invokevirtual 220, 3) := dk_182 0 220 (dk_at dksX8_another_0 15 rfl rfl)
theorem dX8_another_18 : decode cX8_another 18 = .ok (.aload_n 0, 1) := dk_42 (dk_at dksX8_another_0 18 rfl rfl)
theorem dX8_another_19 : decode cX8_another 19 = .ok (.getfield 199, 3) := dk_180 0 199 (dk_at dksX8_another_0 19 rfl rfl)
theorem dX8_another_22 : decode cX8_another 22 = .ok (.ifCond .eq 5, 3) := dk_153 0 5 (dk_at dksX8_another_1 0 rfl rfl)
theorem dX8_another_25 : decode cX8_another 25 = .ok (.iconst 0, 1) := dk_3 (dk_at dksX8_another_1 3 rfl rfl)
theorem dX8_another_26 : decode cX8_another 26 = .ok (.ireturn, 1) := dk_172 (dk_at dksX8_another_1 4 rfl rfl)
theorem dX8_another_27 : decode cX8_another 27 = .ok (.aload_n 0, 1) := dk_42 (dk_at dksX8_another_1 5 rfl rfl)
theorem dX8_another_28 : decode cX8_another 28 = .ok (.invokevirtual 224, 3) := dk_182 0 224 (dk_at dksX8_another_1 6 rfl rfl)
theorem dX8_another_31 : decode cX8_another 31 = .ok (.iconst 1, 1) := dk_4 (dk_at dksX8_another_1 9 rfl rfl)
theorem dX8_another_32 : decode cX8_another 32 = .ok (.ireturn, 1) := dk_172 (dk_at dksX8_another_1 10 rfl rfl)
abbrev cX8_townNow : ByteArray := prog_20_method_21_code
def yX8_townNow : MethodName := ⟨RX8, "townNow", "()I"⟩
def dkwX8_townNow_1 : List UInt8 := [161, 0, 8, 42, 6, 182, 0, 220, 42, 180, 0, 199, 154, 0, 7, 27, 167, 0, 4, 3, 172]
abbrev dktX8_townNow_1 : List UInt8 := dkwX8_townNow_1 ++ []
def dkwX8_townNow_0 : List UInt8 := [42, 3, 17, 39, 15, 182, 0, 227, 60, 42, 180, 0, 199, 154, 0, 19, 27, 42, 180, 0, 34, 16, 7, 46]
abbrev dktX8_townNow_0 : List UInt8 := dkwX8_townNow_0 ++ dktX8_townNow_1
theorem dksX8_townNow_0 : cX8_townNow.data.toList.drop 0 = dktX8_townNow_0 := by decide +kernel
theorem dksX8_townNow_1 : cX8_townNow.data.toList.drop 24 = dktX8_townNow_1 := dk_seg dksX8_townNow_0 24 rfl rfl
theorem dX8_townNow_0 : decode cX8_townNow 0 = .ok (.aload_n 0, 1) := dk_42 (dk_at dksX8_townNow_0 0 rfl rfl)
theorem dX8_townNow_1 : decode cX8_townNow 1 = .ok (.iconst 0, 1) := dk_3 (dk_at dksX8_townNow_0 1 rfl rfl)
theorem dX8_townNow_2 : decode cX8_townNow 2 = .ok (.sipush 9999, 3) := dk_17 39 15 (dk_at dksX8_townNow_0 2 rfl rfl)
theorem dX8_townNow_5 : decode cX8_townNow 5 = .ok (.invokevirtual 227, 3) := dk_182 0 227 (dk_at dksX8_townNow_0 5 rfl rfl)
theorem dX8_townNow_8 : decode cX8_townNow 8 = .ok (.istore_n 1, 1) := dk_60 (dk_at dksX8_townNow_0 8 rfl rfl)
theorem dX8_townNow_9 : decode cX8_townNow 9 = .ok (.aload_n 0, 1) := dk_42 (dk_at dksX8_townNow_0 9 rfl rfl)
theorem dX8_townNow_10 : decode cX8_townNow 10 = .ok (.getfield 199, 3) := dk_180 0 199 (dk_at dksX8_townNow_0 10 rfl rfl)
theorem dX8_townNow_13 : decode cX8_townNow 13 = .ok (.ifCond .ne 19, 3) := dk_154 0 19 (dk_at dksX8_townNow_0 13 rfl rfl)
theorem dX8_townNow_16 : decode cX8_townNow 16 = .ok (.iload_n 1, 1) := dk_27 (dk_at dksX8_townNow_0 16 rfl rfl)
theorem dX8_townNow_17 : decode cX8_townNow 17 = .ok (.aload_n 0, 1) := dk_42 (dk_at dksX8_townNow_0 17 rfl rfl)
theorem dX8_townNow_18 : decode cX8_townNow 18 = .ok (.getfield 34, 3) := dk_180 0 34 (dk_at dksX8_townNow_0 18 rfl rfl)
theorem dX8_townNow_21 : decode cX8_townNow 21 = .ok (.bipush 7, 2) := dk_16 7 (dk_at dksX8_townNow_0 21 rfl rfl)
theorem dX8_townNow_23 : decode cX8_townNow 23 = .ok (.iaload, 1) := dk_46 (dk_at dksX8_townNow_0 23 rfl rfl)
theorem dX8_townNow_24 : decode cX8_townNow 24 = .ok (.if_icmp .lt 8, 3) := dk_161 0 8 (dk_at dksX8_townNow_1 0 rfl rfl)
theorem dX8_townNow_27 : decode cX8_townNow 27 = .ok (.aload_n 0, 1) := dk_42 (dk_at dksX8_townNow_1 3 rfl rfl)
theorem dX8_townNow_28 : decode cX8_townNow 28 = .ok (.iconst 3, 1) := dk_6 (dk_at dksX8_townNow_1 4 rfl rfl)
theorem dX8_townNow_29 : decode cX8_townNow 29 = .ok (.invokevirtual 220, 3) := dk_182 0 220 (dk_at dksX8_townNow_1 5 rfl rfl)
theorem dX8_townNow_32 : decode cX8_townNow 32 = .ok (.aload_n 0, 1) := dk_42 (dk_at dksX8_townNow_1 8 rfl rfl)
theorem dX8_townNow_33 : decode cX8_townNow 33 = .ok (.getfield 199, 3) := dk_180 0 199 (dk_at dksX8_townNow_1 9 rfl rfl)
theorem dX8_townNow_36 : decode cX8_townNow 36 = .ok (.ifCond .ne 7, 3) := dk_154 0 7 (dk_at dksX8_townNow_1 12 rfl rfl)
theorem dX8_townNow_39 : decode cX8_townNow 39 = .ok (.iload_n 1, 1) := dk_27 (dk_at dksX8_townNow_1 15 rfl rfl)
theorem dX8_townNow_40 : decode cX8_townNow 40 = .ok (.goto 4, 3) := dk_167 0 4 (dk_at dksX8_townNow_1 16 rfl rfl)
theorem dX8_townNow_43 : decode cX8_townNow 43 = .ok (.iconst 0, 1) := dk_3 (dk_at dksX8_townNow_1 19 rfl rfl)
theorem dX8_townNow_44 : decode cX8_townNow 44 = .ok (.ireturn, 1) := dk_172 (dk_at dksX8_townNow_1 20 rfl rfl)
abbrev cX8_couple : ByteArray := prog_20_method_31_code
def yX8_couple : MethodName := ⟨RX8, "couple", "(II)I"⟩
def dkwX8_couple_0 : List UInt8 := [16, 9, 26, 104, 27, 96, 172]
abbrev dktX8_couple_0 : List UInt8 := dkwX8_couple_0 ++ []
theorem dksX8_couple_0 : cX8_couple.data.toList.drop 0 = dktX8_couple_0 := by decide +kernel
theorem dX8_couple_0 : decode cX8_couple 0 = .ok (.bipush 9, 2) := dk_16 9 (dk_at dksX8_couple_0 0 rfl rfl)
theorem dX8_couple_2 : decode cX8_couple 2 = .ok (.iload_n 0, 1) := dk_26 (dk_at dksX8_couple_0 2 rfl rfl)
theorem dX8_couple_3 : decode cX8_couple 3 = .ok (.imul, 1) := dk_104 (dk_at dksX8_couple_0 3 rfl rfl)
theorem dX8_couple_4 : decode cX8_couple 4 = .ok (.iload_n 1, 1) := dk_27 (dk_at dksX8_couple_0 4 rfl rfl)
theorem dX8_couple_5 : decode cX8_couple 5 = .ok (.iadd, 1) := dk_96 (dk_at dksX8_couple_0 5 rfl rfl)
theorem dX8_couple_6 : decode cX8_couple 6 = .ok (.ireturn, 1) := dk_172 (dk_at dksX8_couple_0 6 rfl rfl)
abbrev cX8_readTown : ByteArray := prog_20_method_30_code
def yX8_readTown : MethodName := ⟨RX8, "readTown", "()V"⟩
def dkwX8_readTown_2 : List UInt8 := [180, 0, 34, 16, 7, 92, 46, 4, 96, 79, 177]
abbrev dktX8_readTown_2 : List UInt8 := dkwX8_readTown_2 ++ []
def dkwX8_readTown_1 : List UInt8 := [180, 0, 34, 16, 8, 92, 46, 4, 42, 180, 0, 34, 16, 7, 46, 120, 128, 79, 42, 182, 0, 224, 42]
abbrev dktX8_readTown_1 : List UInt8 := dkwX8_readTown_1 ++ dktX8_readTown_2
def dkwX8_readTown_0 : List UInt8 := [42, 3, 16, 9, 182, 1, 11, 154, 0, 4, 177, 42, 19, 1, 15, 182, 0, 213, 153, 0, 26, 42]
abbrev dktX8_readTown_0 : List UInt8 := dkwX8_readTown_0 ++ dktX8_readTown_1
theorem dksX8_readTown_0 : cX8_readTown.data.toList.drop 0 = dktX8_readTown_0 := by decide +kernel
theorem dksX8_readTown_1 : cX8_readTown.data.toList.drop 22 = dktX8_readTown_1 := dk_seg dksX8_readTown_0 22 rfl rfl
theorem dksX8_readTown_2 : cX8_readTown.data.toList.drop 45 = dktX8_readTown_2 := dk_seg dksX8_readTown_1 23 rfl rfl
theorem dX8_readTown_0 : decode cX8_readTown 0 = .ok (.aload_n 0, 1) := dk_42 (dk_at dksX8_readTown_0 0 rfl rfl)
theorem dX8_readTown_1 : decode cX8_readTown 1 = .ok (.iconst 0, 1) := dk_3 (dk_at dksX8_readTown_0 1 rfl rfl)
theorem dX8_readTown_2 : decode cX8_readTown 2 = .ok (.bipush 9, 2) := dk_16 9 (dk_at dksX8_readTown_0 2 rfl rfl)
theorem dX8_readTown_4 : decode cX8_readTown 4 = .ok (.invokevirtual 267, 3) := dk_182 1 11 (dk_at dksX8_readTown_0 4 rfl rfl)
theorem dX8_readTown_7 : decode cX8_readTown 7 = .ok (.ifCond .ne 4, 3) := dk_154 0 4 (dk_at dksX8_readTown_0 7 rfl rfl)
theorem dX8_readTown_10 : decode cX8_readTown 10 = .ok (.return_, 1) := dk_177 (dk_at dksX8_readTown_0 10 rfl rfl)
theorem dX8_readTown_11 : decode cX8_readTown 11 = .ok (.aload_n 0, 1) := dk_42 (dk_at dksX8_readTown_0 11 rfl rfl)
theorem dX8_readTown_12 : decode cX8_readTown 12 = .ok (.ldc_w 271, 3) := dk_19 1 15 (dk_at dksX8_readTown_0 12 rfl rfl)
theorem dX8_readTown_15 : decode cX8_readTown 15 = .ok (.invokevirtual 213, 3) := dk_182 0 213 (dk_at dksX8_readTown_0 15 rfl rfl)
theorem dX8_readTown_18 : decode cX8_readTown 18 = .ok (.ifCond .eq 26, 3) := dk_153 0 26 (dk_at dksX8_readTown_0 18 rfl rfl)
theorem dX8_readTown_21 : decode cX8_readTown 21 = .ok (.aload_n 0, 1) := dk_42 (dk_at dksX8_readTown_0 21 rfl rfl)
theorem dX8_readTown_22 : decode cX8_readTown 22 = .ok (.getfield 34, 3) := dk_180 0 34 (dk_at dksX8_readTown_1 0 rfl rfl)
theorem dX8_readTown_25 : decode cX8_readTown 25 = .ok (.bipush 8, 2) := dk_16 8 (dk_at dksX8_readTown_1 3 rfl rfl)
theorem dX8_readTown_27 : decode cX8_readTown 27 = .ok (.dup2, 1) := dk_92 (dk_at dksX8_readTown_1 5 rfl rfl)
theorem dX8_readTown_28 : decode cX8_readTown 28 = .ok (.iaload, 1) := dk_46 (dk_at dksX8_readTown_1 6 rfl rfl)
theorem dX8_readTown_29 : decode cX8_readTown 29 = .ok (.iconst 1, 1) := dk_4 (dk_at dksX8_readTown_1 7 rfl rfl)
theorem dX8_readTown_30 : decode cX8_readTown 30 = .ok (.aload_n 0, 1) := dk_42 (dk_at dksX8_readTown_1 8 rfl rfl)
theorem dX8_readTown_31 : decode cX8_readTown 31 = .ok (.getfield 34, 3) := dk_180 0 34 (dk_at dksX8_readTown_1 9 rfl rfl)
theorem dX8_readTown_34 : decode cX8_readTown 34 = .ok (.bipush 7, 2) := dk_16 7 (dk_at dksX8_readTown_1 12 rfl rfl)
theorem dX8_readTown_36 : decode cX8_readTown 36 = .ok (.iaload, 1) := dk_46 (dk_at dksX8_readTown_1 14 rfl rfl)
theorem dX8_readTown_37 : decode cX8_readTown 37 = .ok (.ishl, 1) := dk_120 (dk_at dksX8_readTown_1 15 rfl rfl)
theorem dX8_readTown_38 : decode cX8_readTown 38 = .ok (.ior, 1) := dk_128 (dk_at dksX8_readTown_1 16 rfl rfl)
theorem dX8_readTown_39 : decode cX8_readTown 39 = .ok (.iastore, 1) := dk_79 (dk_at dksX8_readTown_1 17 rfl rfl)
theorem dX8_readTown_40 : decode cX8_readTown 40 = .ok (.aload_n 0, 1) := dk_42 (dk_at dksX8_readTown_1 18 rfl rfl)
theorem dX8_readTown_41 : decode cX8_readTown 41 = .ok (.invokevirtual 224, 3) := dk_182 0 224 (dk_at dksX8_readTown_1 19 rfl rfl)
theorem dX8_readTown_44 : decode cX8_readTown 44 = .ok (.aload_n 0, 1) := dk_42 (dk_at dksX8_readTown_1 22 rfl rfl)
theorem dX8_readTown_45 : decode cX8_readTown 45 = .ok (.getfield 34, 3) := dk_180 0 34 (dk_at dksX8_readTown_2 0 rfl rfl)
theorem dX8_readTown_48 : decode cX8_readTown 48 = .ok (.bipush 7, 2) := dk_16 7 (dk_at dksX8_readTown_2 3 rfl rfl)
theorem dX8_readTown_50 : decode cX8_readTown 50 = .ok (.dup2, 1) := dk_92 (dk_at dksX8_readTown_2 5 rfl rfl)
theorem dX8_readTown_51 : decode cX8_readTown 51 = .ok (.iaload, 1) := dk_46 (dk_at dksX8_readTown_2 6 rfl rfl)
theorem dX8_readTown_52 : decode cX8_readTown 52 = .ok (.iconst 1, 1) := dk_4 (dk_at dksX8_readTown_2 7 rfl rfl)
theorem dX8_readTown_53 : decode cX8_readTown 53 = .ok (.iadd, 1) := dk_96 (dk_at dksX8_readTown_2 8 rfl rfl)
theorem dX8_readTown_54 : decode cX8_readTown 54 = .ok (.iastore, 1) := dk_79 (dk_at dksX8_readTown_2 9 rfl rfl)
theorem dX8_readTown_55 : decode cX8_readTown 55 = .ok (.return_, 1) := dk_177 (dk_at dksX8_readTown_2 10 rfl rfl)
abbrev cX8_readRoad : ByteArray := prog_20_method_32_code
def yX8_readRoad : MethodName := ⟨RX8, "readRoad", "()V"⟩
def dkwX8_readRoad_5 : List UInt8 := [96, 21, 4, 79, 42, 180, 0, 34, 16, 9, 92, 46, 4, 96, 79, 177]
abbrev dktX8_readRoad_5 : List UInt8 := dkwX8_readRoad_5 ++ []
def dkwX8_readRoad_4 : List UInt8 := [42, 180, 0, 38, 29, 27, 28, 184, 1, 20, 96, 21, 4, 79, 42, 180, 0, 38, 29, 28, 27, 184, 1, 20]
abbrev dktX8_readRoad_4 : List UInt8 := dkwX8_readRoad_4 ++ dktX8_readRoad_5
def dkwX8_readRoad_3 : List UInt8 := [154, 0, 7, 42, 182, 0, 224, 42, 4, 16, 9, 182, 0, 230, 54, 4, 42, 180, 0, 199, 153, 0, 4, 177]
abbrev dktX8_readRoad_3 : List UInt8 := dkwX8_readRoad_3 ++ dktX8_readRoad_4
def dkwX8_readRoad_2 : List UInt8 := [180, 0, 38, 29, 27, 28, 184, 1, 20, 96, 46, 158, 0, 8, 42, 7, 182, 0, 220, 42, 180, 0, 199]
abbrev dktX8_readRoad_2 : List UInt8 := dkwX8_readRoad_2 ++ dktX8_readRoad_3
def dkwX8_readRoad_1 : List UInt8 := [182, 0, 224, 42, 182, 1, 17, 61, 16, 81, 62, 42, 180, 0, 199, 154, 0, 28, 27, 28, 159, 0, 18, 42]
abbrev dktX8_readRoad_1 : List UInt8 := dkwX8_readRoad_1 ++ dktX8_readRoad_2
def dkwX8_readRoad_0 : List UInt8 := [42, 5, 16, 14, 182, 1, 11, 154, 0, 4, 177, 42, 182, 1, 17, 60, 42, 180, 0, 199, 154, 0, 7, 42]
abbrev dktX8_readRoad_0 : List UInt8 := dkwX8_readRoad_0 ++ dktX8_readRoad_1
theorem dksX8_readRoad_0 : cX8_readRoad.data.toList.drop 0 = dktX8_readRoad_0 := by decide +kernel
theorem dksX8_readRoad_1 : cX8_readRoad.data.toList.drop 24 = dktX8_readRoad_1 := dk_seg dksX8_readRoad_0 24 rfl rfl
theorem dksX8_readRoad_2 : cX8_readRoad.data.toList.drop 48 = dktX8_readRoad_2 := dk_seg dksX8_readRoad_1 24 rfl rfl
theorem dksX8_readRoad_3 : cX8_readRoad.data.toList.drop 71 = dktX8_readRoad_3 := dk_seg dksX8_readRoad_2 23 rfl rfl
theorem dksX8_readRoad_4 : cX8_readRoad.data.toList.drop 95 = dktX8_readRoad_4 := dk_seg dksX8_readRoad_3 24 rfl rfl
theorem dksX8_readRoad_5 : cX8_readRoad.data.toList.drop 119 = dktX8_readRoad_5 := dk_seg dksX8_readRoad_4 24 rfl rfl
theorem dX8_readRoad_0 : decode cX8_readRoad 0 = .ok (.aload_n 0, 1) := dk_42 (dk_at dksX8_readRoad_0 0 rfl rfl)
theorem dX8_readRoad_1 : decode cX8_readRoad 1 = .ok (.iconst 2, 1) := dk_5 (dk_at dksX8_readRoad_0 1 rfl rfl)
theorem dX8_readRoad_2 : decode cX8_readRoad 2 = .ok (.bipush 14, 2) := dk_16 14 (dk_at dksX8_readRoad_0 2 rfl rfl)
theorem dX8_readRoad_4 : decode cX8_readRoad 4 = .ok (.invokevirtual 267, 3) := dk_182 1 11 (dk_at dksX8_readRoad_0 4 rfl rfl)
theorem dX8_readRoad_7 : decode cX8_readRoad 7 = .ok (.ifCond .ne 4, 3) := dk_154 0 4 (dk_at dksX8_readRoad_0 7 rfl rfl)
theorem dX8_readRoad_10 : decode cX8_readRoad 10 = .ok (.return_, 1) := dk_177 (dk_at dksX8_readRoad_0 10 rfl rfl)
theorem dX8_readRoad_11 : decode cX8_readRoad 11 = .ok (.aload_n 0, 1) := dk_42 (dk_at dksX8_readRoad_0 11 rfl rfl)
theorem dX8_readRoad_12 : decode cX8_readRoad 12 = .ok (.invokevirtual 273, 3) := dk_182 1 17 (dk_at dksX8_readRoad_0 12 rfl rfl)
theorem dX8_readRoad_15 : decode cX8_readRoad 15 = .ok (.istore_n 1, 1) := dk_60 (dk_at dksX8_readRoad_0 15 rfl rfl)
theorem dX8_readRoad_16 : decode cX8_readRoad 16 = .ok (.aload_n 0, 1) := dk_42 (dk_at dksX8_readRoad_0 16 rfl rfl)
theorem dX8_readRoad_17 : decode cX8_readRoad 17 = .ok (.getfield 199, 3) := dk_180 0 199 (dk_at dksX8_readRoad_0 17 rfl rfl)
theorem dX8_readRoad_20 : decode cX8_readRoad 20 = .ok (.ifCond .ne 7, 3) := dk_154 0 7 (dk_at dksX8_readRoad_0 20 rfl rfl)
theorem dX8_readRoad_23 : decode cX8_readRoad 23 = .ok (.aload_n 0, 1) := dk_42 (dk_at dksX8_readRoad_0 23 rfl rfl)
theorem dX8_readRoad_24 : decode cX8_readRoad 24 = .ok (.invokevirtual 224, 3) := dk_182 0 224 (dk_at dksX8_readRoad_1 0 rfl rfl)
theorem dX8_readRoad_27 : decode cX8_readRoad 27 = .ok (.aload_n 0, 1) := dk_42 (dk_at dksX8_readRoad_1 3 rfl rfl)
theorem dX8_readRoad_28 : decode cX8_readRoad 28 = .ok (.invokevirtual 273, 3) := dk_182 1 17 (dk_at dksX8_readRoad_1 4 rfl rfl)
theorem dX8_readRoad_31 : decode cX8_readRoad 31 = .ok (.istore_n 2, 1) := dk_61 (dk_at dksX8_readRoad_1 7 rfl rfl)
theorem dX8_readRoad_32 : decode cX8_readRoad 32 = .ok (.bipush 81, 2) := dk_16 81 (dk_at dksX8_readRoad_1 8 rfl rfl)
theorem dX8_readRoad_34 : decode cX8_readRoad 34 = .ok (.istore_n 3, 1) := dk_62 (dk_at dksX8_readRoad_1 10 rfl rfl)
theorem dX8_readRoad_35 : decode cX8_readRoad 35 = .ok (.aload_n 0, 1) := dk_42 (dk_at dksX8_readRoad_1 11 rfl rfl)
theorem dX8_readRoad_36 : decode cX8_readRoad 36 = .ok (.getfield 199, 3) := dk_180 0 199 (dk_at dksX8_readRoad_1 12 rfl rfl)
theorem dX8_readRoad_39 : decode cX8_readRoad 39 = .ok (.ifCond .ne 28, 3) := dk_154 0 28 (dk_at dksX8_readRoad_1 15 rfl rfl)
theorem dX8_readRoad_42 : decode cX8_readRoad 42 = .ok (.iload_n 1, 1) := dk_27 (dk_at dksX8_readRoad_1 18 rfl rfl)
theorem dX8_readRoad_43 : decode cX8_readRoad 43 = .ok (.iload_n 2, 1) := dk_28 (dk_at dksX8_readRoad_1 19 rfl rfl)
theorem dX8_readRoad_44 : decode cX8_readRoad 44 = .ok (.if_icmp .eq 18, 3) := dk_159 0 18 (dk_at dksX8_readRoad_1 20 rfl rfl)
theorem dX8_readRoad_47 : decode cX8_readRoad 47 = .ok (.aload_n 0, 1) := dk_42 (dk_at dksX8_readRoad_1 23 rfl rfl)
theorem dX8_readRoad_48 : decode cX8_readRoad 48 = .ok (.getfield 38, 3) := dk_180 0 38 (dk_at dksX8_readRoad_2 0 rfl rfl)
theorem dX8_readRoad_51 : decode cX8_readRoad 51 = .ok (.iload_n 3, 1) := dk_29 (dk_at dksX8_readRoad_2 3 rfl rfl)
theorem dX8_readRoad_52 : decode cX8_readRoad 52 = .ok (.iload_n 1, 1) := dk_27 (dk_at dksX8_readRoad_2 4 rfl rfl)
theorem dX8_readRoad_53 : decode cX8_readRoad 53 = .ok (.iload_n 2, 1) := dk_28 (dk_at dksX8_readRoad_2 5 rfl rfl)
theorem dX8_readRoad_54 : decode cX8_readRoad 54 = .ok (.invokestatic 276, 3) := dk_184 1 20 (dk_at dksX8_readRoad_2 6 rfl rfl)
theorem dX8_readRoad_57 : decode cX8_readRoad 57 = .ok (.iadd, 1) := dk_96 (dk_at dksX8_readRoad_2 9 rfl rfl)
theorem dX8_readRoad_58 : decode cX8_readRoad 58 = .ok (.iaload, 1) := dk_46 (dk_at dksX8_readRoad_2 10 rfl rfl)
theorem dX8_readRoad_59 : decode cX8_readRoad 59 = .ok (.ifCond .le 8, 3) := dk_158 0 8 (dk_at dksX8_readRoad_2 11 rfl rfl)
theorem dX8_readRoad_62 : decode cX8_readRoad 62 = .ok (.aload_n 0, 1) := dk_42 (dk_at dksX8_readRoad_2 14 rfl rfl)
theorem dX8_readRoad_63 : decode cX8_readRoad 63 = .ok (.iconst 4, 1) := dk_7 (dk_at dksX8_readRoad_2 15 rfl rfl)
theorem dX8_readRoad_64 : decode cX8_readRoad 64 = .ok (.invokevirtual 220, 3) := dk_182 0 220 (dk_at dksX8_readRoad_2 16 rfl rfl)
theorem dX8_readRoad_67 : decode cX8_readRoad 67 = .ok (.aload_n 0, 1) := dk_42 (dk_at dksX8_readRoad_2 19 rfl rfl)
theorem dX8_readRoad_68 : decode cX8_readRoad 68 = .ok (.getfield 199, 3) := dk_180 0 199 (dk_at dksX8_readRoad_2 20 rfl rfl)
theorem dX8_readRoad_71 : decode cX8_readRoad 71 = .ok (.ifCond .ne 7, 3) := dk_154 0 7 (dk_at dksX8_readRoad_3 0 rfl rfl)
theorem dX8_readRoad_74 : decode cX8_readRoad 74 = .ok (.aload_n 0, 1) := dk_42 (dk_at dksX8_readRoad_3 3 rfl rfl)
theorem dX8_readRoad_75 : decode cX8_readRoad 75 = .ok (.invokevirtual 224, 3) := dk_182 0 224 (dk_at dksX8_readRoad_3 4 rfl rfl)
theorem dX8_readRoad_78 : decode cX8_readRoad 78 = .ok (.aload_n 0, 1) := dk_42 (dk_at dksX8_readRoad_3 7 rfl rfl)
theorem dX8_readRoad_79 : decode cX8_readRoad 79 = .ok (.iconst 1, 1) := dk_4 (dk_at dksX8_readRoad_3 8 rfl rfl)
theorem dX8_readRoad_80 : decode cX8_readRoad 80 = .ok (.bipush 9, 2) := dk_16 9 (dk_at dksX8_readRoad_3 9 rfl rfl)
theorem dX8_readRoad_82 : decode cX8_readRoad 82 = .ok (.invokevirtual 230, 3) := dk_182 0 230 (dk_at dksX8_readRoad_3 11 rfl rfl)
theorem dX8_readRoad_85 : decode cX8_readRoad 85 = .ok (.istore 4, 2) := dk_54 4 (dk_at dksX8_readRoad_3 14 rfl rfl)
theorem dX8_readRoad_87 : decode cX8_readRoad 87 = .ok (.aload_n 0, 1) := dk_42 (dk_at dksX8_readRoad_3 16 rfl rfl)
theorem dX8_readRoad_88 : decode cX8_readRoad 88 = .ok (.getfield 199, 3) := dk_180 0 199 (dk_at dksX8_readRoad_3 17 rfl rfl)
theorem dX8_readRoad_91 : decode cX8_readRoad 91 = .ok (.ifCond .eq 4, 3) := dk_153 0 4 (dk_at dksX8_readRoad_3 20 rfl rfl)
theorem dX8_readRoad_94 : decode cX8_readRoad 94 = .ok (.return_, 1) := dk_177 (dk_at dksX8_readRoad_3 23 rfl rfl)
theorem dX8_readRoad_95 : decode cX8_readRoad 95 = .ok (.aload_n 0, 1) := dk_42 (dk_at dksX8_readRoad_4 0 rfl rfl)
theorem dX8_readRoad_96 : decode cX8_readRoad 96 = .ok (.getfield 38, 3) := dk_180 0 38 (dk_at dksX8_readRoad_4 1 rfl rfl)
theorem dX8_readRoad_99 : decode cX8_readRoad 99 = .ok (.iload_n 3, 1) := dk_29 (dk_at dksX8_readRoad_4 4 rfl rfl)
theorem dX8_readRoad_100 : decode cX8_readRoad 100 = .ok (.iload_n 1, 1) := dk_27 (dk_at dksX8_readRoad_4 5 rfl rfl)
theorem dX8_readRoad_101 : decode cX8_readRoad 101 = .ok (.iload_n 2, 1) := dk_28 (dk_at dksX8_readRoad_4 6 rfl rfl)
theorem dX8_readRoad_102 : decode cX8_readRoad 102 = .ok (.invokestatic 276, 3) := dk_184 1 20 (dk_at dksX8_readRoad_4 7 rfl rfl)
theorem dX8_readRoad_105 : decode cX8_readRoad 105 = .ok (.iadd, 1) := dk_96 (dk_at dksX8_readRoad_4 10 rfl rfl)
theorem dX8_readRoad_106 : decode cX8_readRoad 106 = .ok (.iload 4, 2) := dk_21 4 (dk_at dksX8_readRoad_4 11 rfl rfl)
theorem dX8_readRoad_108 : decode cX8_readRoad 108 = .ok (.iastore, 1) := dk_79 (dk_at dksX8_readRoad_4 13 rfl rfl)
theorem dX8_readRoad_109 : decode cX8_readRoad 109 = .ok (.aload_n 0, 1) := dk_42 (dk_at dksX8_readRoad_4 14 rfl rfl)
theorem dX8_readRoad_110 : decode cX8_readRoad 110 = .ok (.getfield 38, 3) := dk_180 0 38 (dk_at dksX8_readRoad_4 15 rfl rfl)
theorem dX8_readRoad_113 : decode cX8_readRoad 113 = .ok (.iload_n 3, 1) := dk_29 (dk_at dksX8_readRoad_4 18 rfl rfl)
theorem dX8_readRoad_114 : decode cX8_readRoad 114 = .ok (.iload_n 2, 1) := dk_28 (dk_at dksX8_readRoad_4 19 rfl rfl)
theorem dX8_readRoad_115 : decode cX8_readRoad 115 = .ok (.iload_n 1, 1) := dk_27 (dk_at dksX8_readRoad_4 20 rfl rfl)
theorem dX8_readRoad_116 : decode cX8_readRoad 116 = .ok (.invokestatic 276, 3) := dk_184 1 20 (dk_at dksX8_readRoad_4 21 rfl rfl)
theorem dX8_readRoad_119 : decode cX8_readRoad 119 = .ok (.iadd, 1) := dk_96 (dk_at dksX8_readRoad_5 0 rfl rfl)
theorem dX8_readRoad_120 : decode cX8_readRoad 120 = .ok (.iload 4, 2) := dk_21 4 (dk_at dksX8_readRoad_5 1 rfl rfl)
theorem dX8_readRoad_122 : decode cX8_readRoad 122 = .ok (.iastore, 1) := dk_79 (dk_at dksX8_readRoad_5 3 rfl rfl)
theorem dX8_readRoad_123 : decode cX8_readRoad 123 = .ok (.aload_n 0, 1) := dk_42 (dk_at dksX8_readRoad_5 4 rfl rfl)
theorem dX8_readRoad_124 : decode cX8_readRoad 124 = .ok (.getfield 34, 3) := dk_180 0 34 (dk_at dksX8_readRoad_5 5 rfl rfl)
theorem dX8_readRoad_127 : decode cX8_readRoad 127 = .ok (.bipush 9, 2) := dk_16 9 (dk_at dksX8_readRoad_5 8 rfl rfl)
theorem dX8_readRoad_129 : decode cX8_readRoad 129 = .ok (.dup2, 1) := dk_92 (dk_at dksX8_readRoad_5 10 rfl rfl)
theorem dX8_readRoad_130 : decode cX8_readRoad 130 = .ok (.iaload, 1) := dk_46 (dk_at dksX8_readRoad_5 11 rfl rfl)
theorem dX8_readRoad_131 : decode cX8_readRoad 131 = .ok (.iconst 1, 1) := dk_4 (dk_at dksX8_readRoad_5 12 rfl rfl)
theorem dX8_readRoad_132 : decode cX8_readRoad 132 = .ok (.iadd, 1) := dk_96 (dk_at dksX8_readRoad_5 13 rfl rfl)
theorem dX8_readRoad_133 : decode cX8_readRoad 133 = .ok (.iastore, 1) := dk_79 (dk_at dksX8_readRoad_5 14 rfl rfl)
theorem dX8_readRoad_134 : decode cX8_readRoad 134 = .ok (.return_, 1) := dk_177 (dk_at dksX8_readRoad_5 15 rfl rfl)
abbrev cX8_readCase : ByteArray := prog_20_method_34_code
def yX8_readCase : MethodName := ⟨RX8, "readCase", "()V"⟩
def dkwX8_readCase_7 : List UInt8 := [79, 132, 2, 1, 167, 255, 158, 42, 180, 0, 34, 16, 12, 92, 46, 4, 96, 79, 177]
abbrev dktX8_readCase_7 : List UInt8 := dkwX8_readCase_7 ++ []
def dkwX8_readCase_6 : List UInt8 := [182, 0, 230, 54, 4, 42, 180, 0, 199, 153, 0, 6, 167, 255, 174, 42, 180, 0, 55, 27, 29, 96, 21, 4]
abbrev dktX8_readCase_6 : List UInt8 := dkwX8_readCase_6 ++ dktX8_readCase_7
def dkwX8_readCase_5 : List UInt8 := [159, 0, 8, 42, 7, 182, 0, 220, 42, 180, 0, 199, 154, 0, 7, 42, 182, 0, 224, 42, 3, 16, 9]
abbrev dktX8_readCase_5 : List UInt8 := dkwX8_readCase_5 ++ dktX8_readCase_6
def dkwX8_readCase_4 : List UInt8 := [182, 0, 220, 42, 182, 1, 17, 62, 42, 180, 0, 199, 154, 0, 20, 42, 180, 0, 55, 27, 29, 96, 46, 2]
abbrev dktX8_readCase_4 : List UInt8 := dkwX8_readCase_4 ++ dktX8_readCase_5
def dkwX8_readCase_3 : List UInt8 := [180, 0, 199, 154, 0, 97, 42, 180, 0, 173, 5, 160, 0, 89, 28, 16, 6, 160, 0, 8, 42, 5]
abbrev dktX8_readCase_3 : List UInt8 := dkwX8_readCase_3 ++ dktX8_readCase_4
def dkwX8_readCase_2 : List UInt8 := [3, 61, 42, 180, 0, 199, 154, 0, 16, 42, 180, 0, 173, 5, 159, 0, 8, 42, 4, 182, 0, 220, 42]
abbrev dktX8_readCase_2 : List UInt8 := dkwX8_readCase_2 ++ dktX8_readCase_3
def dkwX8_readCase_1 : List UInt8 := [60, 3, 61, 28, 16, 9, 162, 0, 18, 42, 180, 0, 55, 27, 28, 96, 2, 79, 132, 2, 1, 167, 255, 238]
abbrev dktX8_readCase_1 : List UInt8 := dkwX8_readCase_1 ++ dktX8_readCase_2
def dkwX8_readCase_0 : List UInt8 := [42, 8, 16, 6, 182, 1, 11, 154, 0, 4, 177, 16, 9, 16, 6, 42, 180, 0, 34, 16, 12, 46, 96, 104]
abbrev dktX8_readCase_0 : List UInt8 := dkwX8_readCase_0 ++ dktX8_readCase_1
theorem dksX8_readCase_0 : cX8_readCase.data.toList.drop 0 = dktX8_readCase_0 := by decide +kernel
theorem dksX8_readCase_1 : cX8_readCase.data.toList.drop 24 = dktX8_readCase_1 := dk_seg dksX8_readCase_0 24 rfl rfl
theorem dksX8_readCase_2 : cX8_readCase.data.toList.drop 48 = dktX8_readCase_2 := dk_seg dksX8_readCase_1 24 rfl rfl
theorem dksX8_readCase_3 : cX8_readCase.data.toList.drop 71 = dktX8_readCase_3 := dk_seg dksX8_readCase_2 23 rfl rfl
theorem dksX8_readCase_4 : cX8_readCase.data.toList.drop 93 = dktX8_readCase_4 := dk_seg dksX8_readCase_3 22 rfl rfl
theorem dksX8_readCase_5 : cX8_readCase.data.toList.drop 117 = dktX8_readCase_5 := dk_seg dksX8_readCase_4 24 rfl rfl
theorem dksX8_readCase_6 : cX8_readCase.data.toList.drop 140 = dktX8_readCase_6 := dk_seg dksX8_readCase_5 23 rfl rfl
theorem dksX8_readCase_7 : cX8_readCase.data.toList.drop 164 = dktX8_readCase_7 := dk_seg dksX8_readCase_6 24 rfl rfl
theorem dX8_readCase_0 : decode cX8_readCase 0 = .ok (.aload_n 0, 1) := dk_42 (dk_at dksX8_readCase_0 0 rfl rfl)
theorem dX8_readCase_1 : decode cX8_readCase 1 = .ok (.iconst 5, 1) := dk_8 (dk_at dksX8_readCase_0 1 rfl rfl)
theorem dX8_readCase_2 : decode cX8_readCase 2 = .ok (.bipush 6, 2) := dk_16 6 (dk_at dksX8_readCase_0 2 rfl rfl)
theorem dX8_readCase_4 : decode cX8_readCase 4 = .ok (.invokevirtual 267, 3) := dk_182 1 11 (dk_at dksX8_readCase_0 4 rfl rfl)
theorem dX8_readCase_7 : decode cX8_readCase 7 = .ok (.ifCond .ne 4, 3) := dk_154 0 4 (dk_at dksX8_readCase_0 7 rfl rfl)
theorem dX8_readCase_10 : decode cX8_readCase 10 = .ok (.return_, 1) := dk_177 (dk_at dksX8_readCase_0 10 rfl rfl)
theorem dX8_readCase_11 : decode cX8_readCase 11 = .ok (.bipush 9, 2) := dk_16 9 (dk_at dksX8_readCase_0 11 rfl rfl)
theorem dX8_readCase_13 : decode cX8_readCase 13 = .ok (.bipush 6, 2) := dk_16 6 (dk_at dksX8_readCase_0 13 rfl rfl)
theorem dX8_readCase_15 : decode cX8_readCase 15 = .ok (.aload_n 0, 1) := dk_42 (dk_at dksX8_readCase_0 15 rfl rfl)
theorem dX8_readCase_16 : decode cX8_readCase 16 = .ok (.getfield 34, 3) := dk_180 0 34 (dk_at dksX8_readCase_0 16 rfl rfl)
theorem dX8_readCase_19 : decode cX8_readCase 19 = .ok (.bipush 12, 2) := dk_16 12 (dk_at dksX8_readCase_0 19 rfl rfl)
theorem dX8_readCase_21 : decode cX8_readCase 21 = .ok (.iaload, 1) := dk_46 (dk_at dksX8_readCase_0 21 rfl rfl)
theorem dX8_readCase_22 : decode cX8_readCase 22 = .ok (.iadd, 1) := dk_96 (dk_at dksX8_readCase_0 22 rfl rfl)
theorem dX8_readCase_23 : decode cX8_readCase 23 = .ok (.imul, 1) := dk_104 (dk_at dksX8_readCase_0 23 rfl rfl)
theorem dX8_readCase_24 : decode cX8_readCase 24 = .ok (.istore_n 1, 1) := dk_60 (dk_at dksX8_readCase_1 0 rfl rfl)
theorem dX8_readCase_25 : decode cX8_readCase 25 = .ok (.iconst 0, 1) := dk_3 (dk_at dksX8_readCase_1 1 rfl rfl)
theorem dX8_readCase_26 : decode cX8_readCase 26 = .ok (.istore_n 2, 1) := dk_61 (dk_at dksX8_readCase_1 2 rfl rfl)
theorem dX8_readCase_27 : decode cX8_readCase 27 = .ok (.iload_n 2, 1) := dk_28 (dk_at dksX8_readCase_1 3 rfl rfl)
theorem dX8_readCase_28 : decode cX8_readCase 28 = .ok (.bipush 9, 2) := dk_16 9 (dk_at dksX8_readCase_1 4 rfl rfl)
theorem dX8_readCase_30 : decode cX8_readCase 30 = .ok (.if_icmp .ge 18, 3) := dk_162 0 18 (dk_at dksX8_readCase_1 6 rfl rfl)
theorem dX8_readCase_33 : decode cX8_readCase 33 = .ok (.aload_n 0, 1) := dk_42 (dk_at dksX8_readCase_1 9 rfl rfl)
theorem dX8_readCase_34 : decode cX8_readCase 34 = .ok (.getfield 55, 3) := dk_180 0 55 (dk_at dksX8_readCase_1 10 rfl rfl)
theorem dX8_readCase_37 : decode cX8_readCase 37 = .ok (.iload_n 1, 1) := dk_27 (dk_at dksX8_readCase_1 13 rfl rfl)
theorem dX8_readCase_38 : decode cX8_readCase 38 = .ok (.iload_n 2, 1) := dk_28 (dk_at dksX8_readCase_1 14 rfl rfl)
theorem dX8_readCase_39 : decode cX8_readCase 39 = .ok (.iadd, 1) := dk_96 (dk_at dksX8_readCase_1 15 rfl rfl)
theorem dX8_readCase_40 : decode cX8_readCase 40 = .ok (.iconst (-1), 1) := dk_2 (dk_at dksX8_readCase_1 16 rfl rfl)
theorem dX8_readCase_41 : decode cX8_readCase 41 = .ok (.iastore, 1) := dk_79 (dk_at dksX8_readCase_1 17 rfl rfl)
theorem dX8_readCase_42 : decode cX8_readCase 42 = .ok (.iinc 2 1, 3) := dk_132 2 1 (dk_at dksX8_readCase_1 18 rfl rfl)
theorem dX8_readCase_45 : decode cX8_readCase 45 = .ok (.goto (-18), 3) := dk_167 255 238 (dk_at dksX8_readCase_1 21 rfl rfl)
theorem dX8_readCase_48 : decode cX8_readCase 48 = .ok (.iconst 0, 1) := dk_3 (dk_at dksX8_readCase_2 0 rfl rfl)
theorem dX8_readCase_49 : decode cX8_readCase 49 = .ok (.istore_n 2, 1) := dk_61 (dk_at dksX8_readCase_2 1 rfl rfl)
theorem dX8_readCase_50 : decode cX8_readCase 50 = .ok (.aload_n 0, 1) := dk_42 (dk_at dksX8_readCase_2 2 rfl rfl)
theorem dX8_readCase_51 : decode cX8_readCase 51 = .ok (.getfield 199, 3) := dk_180 0 199 (dk_at dksX8_readCase_2 3 rfl rfl)
theorem dX8_readCase_54 : decode cX8_readCase 54 = .ok (.ifCond .ne 16, 3) := dk_154 0 16 (dk_at dksX8_readCase_2 6 rfl rfl)
theorem dX8_readCase_57 : decode cX8_readCase 57 = .ok (.aload_n 0, 1) := dk_42 (dk_at dksX8_readCase_2 9 rfl rfl)
theorem dX8_readCase_58 : decode cX8_readCase 58 = .ok (.getfield 173, 3) := dk_180 0 173 (dk_at dksX8_readCase_2 10 rfl rfl)
theorem dX8_readCase_61 : decode cX8_readCase 61 = .ok (.iconst 2, 1) := dk_5 (dk_at dksX8_readCase_2 13 rfl rfl)
theorem dX8_readCase_62 : decode cX8_readCase 62 = .ok (.if_icmp .eq 8, 3) := dk_159 0 8 (dk_at dksX8_readCase_2 14 rfl rfl)
theorem dX8_readCase_65 : decode cX8_readCase 65 = .ok (.aload_n 0, 1) := dk_42 (dk_at dksX8_readCase_2 17 rfl rfl)
theorem dX8_readCase_66 : decode cX8_readCase 66 = .ok (.iconst 1, 1) := dk_4 (dk_at dksX8_readCase_2 18 rfl rfl)
theorem dX8_readCase_67 : decode cX8_readCase 67 = .ok (.invokevirtual 220, 3) := dk_182 0 220 (dk_at dksX8_readCase_2 19 rfl rfl)
theorem dX8_readCase_70 : decode cX8_readCase 70 = .ok (.aload_n 0, 1) := dk_42 (dk_at dksX8_readCase_2 22 rfl rfl)
theorem dX8_readCase_71 : decode cX8_readCase 71 = .ok (.getfield 199, 3) := dk_180 0 199 (dk_at dksX8_readCase_3 0 rfl rfl)
theorem dX8_readCase_74 : decode cX8_readCase 74 = .ok (.ifCond .ne 97, 3) := dk_154 0 97 (dk_at dksX8_readCase_3 3 rfl rfl)
theorem dX8_readCase_77 : decode cX8_readCase 77 = .ok (.aload_n 0, 1) := dk_42 (dk_at dksX8_readCase_3 6 rfl rfl)
theorem dX8_readCase_78 : decode cX8_readCase 78 = .ok (.getfield 173, 3) := dk_180 0 173 (dk_at dksX8_readCase_3 7 rfl rfl)
theorem dX8_readCase_81 : decode cX8_readCase 81 = .ok (.iconst 2, 1) := dk_5 (dk_at dksX8_readCase_3 10 rfl rfl)
theorem dX8_readCase_82 : decode cX8_readCase 82 = .ok (.if_icmp .ne 89, 3) := dk_160 0 89 (dk_at dksX8_readCase_3 11 rfl rfl)
theorem dX8_readCase_85 : decode cX8_readCase 85 = .ok (.iload_n 2, 1) := dk_28 (dk_at dksX8_readCase_3 14 rfl rfl)
theorem dX8_readCase_86 : decode cX8_readCase 86 = .ok (.bipush 6, 2) := dk_16 6 (dk_at dksX8_readCase_3 15 rfl rfl)
theorem dX8_readCase_88 : decode cX8_readCase 88 = .ok (.if_icmp .ne 8, 3) := dk_160 0 8 (dk_at dksX8_readCase_3 17 rfl rfl)
theorem dX8_readCase_91 : decode cX8_readCase 91 = .ok (.aload_n 0, 1) := dk_42 (dk_at dksX8_readCase_3 20 rfl rfl)
theorem dX8_readCase_92 : decode cX8_readCase 92 = .ok (.iconst 2, 1) := dk_5 (dk_at dksX8_readCase_3 21 rfl rfl)
theorem dX8_readCase_93 : decode cX8_readCase 93 = .ok (.invokevirtual 220, 3) := dk_182 0 220 (dk_at dksX8_readCase_4 0 rfl rfl)
theorem dX8_readCase_96 : decode cX8_readCase 96 = .ok (.aload_n 0, 1) := dk_42 (dk_at dksX8_readCase_4 3 rfl rfl)
theorem dX8_readCase_97 : decode cX8_readCase 97 = .ok (.invokevirtual 273, 3) := dk_182 1 17 (dk_at dksX8_readCase_4 4 rfl rfl)
theorem dX8_readCase_100 : decode cX8_readCase 100 = .ok (.istore_n 3, 1) := dk_62 (dk_at dksX8_readCase_4 7 rfl rfl)
theorem dX8_readCase_101 : decode cX8_readCase 101 = .ok (.aload_n 0, 1) := dk_42 (dk_at dksX8_readCase_4 8 rfl rfl)
theorem dX8_readCase_102 : decode cX8_readCase 102 = .ok (.getfield 199, 3) := dk_180 0 199 (dk_at dksX8_readCase_4 9 rfl rfl)
theorem dX8_readCase_105 : decode cX8_readCase 105 = .ok (.ifCond .ne 20, 3) := dk_154 0 20 (dk_at dksX8_readCase_4 12 rfl rfl)
theorem dX8_readCase_108 : decode cX8_readCase 108 = .ok (.aload_n 0, 1) := dk_42 (dk_at dksX8_readCase_4 15 rfl rfl)
theorem dX8_readCase_109 : decode cX8_readCase 109 = .ok (.getfield 55, 3) := dk_180 0 55 (dk_at dksX8_readCase_4 16 rfl rfl)
theorem dX8_readCase_112 : decode cX8_readCase 112 = .ok (.iload_n 1, 1) := dk_27 (dk_at dksX8_readCase_4 19 rfl rfl)
theorem dX8_readCase_113 : decode cX8_readCase 113 = .ok (.iload_n 3, 1) := dk_29 (dk_at dksX8_readCase_4 20 rfl rfl)
theorem dX8_readCase_114 : decode cX8_readCase 114 = .ok (.iadd, 1) := dk_96 (dk_at dksX8_readCase_4 21 rfl rfl)
theorem dX8_readCase_115 : decode cX8_readCase 115 = .ok (.iaload, 1) := dk_46 (dk_at dksX8_readCase_4 22 rfl rfl)
theorem dX8_readCase_116 : decode cX8_readCase 116 = .ok (.iconst (-1), 1) := dk_2 (dk_at dksX8_readCase_4 23 rfl rfl)
theorem dX8_readCase_117 : decode cX8_readCase 117 = .ok (.if_icmp .eq 8, 3) := dk_159 0 8 (dk_at dksX8_readCase_5 0 rfl rfl)
theorem dX8_readCase_120 : decode cX8_readCase 120 = .ok (.aload_n 0, 1) := dk_42 (dk_at dksX8_readCase_5 3 rfl rfl)
theorem dX8_readCase_121 : decode cX8_readCase 121 = .ok (.iconst 4, 1) := dk_7 (dk_at dksX8_readCase_5 4 rfl rfl)
theorem dX8_readCase_122 : decode cX8_readCase 122 = .ok (.invokevirtual 220, 3) := dk_182 0 220 (dk_at dksX8_readCase_5 5 rfl rfl)
theorem dX8_readCase_125 : decode cX8_readCase 125 = .ok (.aload_n 0, 1) := dk_42 (dk_at dksX8_readCase_5 8 rfl rfl)
theorem dX8_readCase_126 : decode cX8_readCase 126 = .ok (.getfield 199, 3) := dk_180 0 199 (dk_at dksX8_readCase_5 9 rfl rfl)
theorem dX8_readCase_129 : decode cX8_readCase 129 = .ok (.ifCond .ne 7, 3) := dk_154 0 7 (dk_at dksX8_readCase_5 12 rfl rfl)
theorem dX8_readCase_132 : decode cX8_readCase 132 = .ok (.aload_n 0, 1) := dk_42 (dk_at dksX8_readCase_5 15 rfl rfl)
theorem dX8_readCase_133 : decode cX8_readCase 133 = .ok (.invokevirtual 224, 3) := dk_182 0 224 (dk_at dksX8_readCase_5 16 rfl rfl)
theorem dX8_readCase_136 : decode cX8_readCase 136 = .ok (.aload_n 0, 1) := dk_42 (dk_at dksX8_readCase_5 19 rfl rfl)
theorem dX8_readCase_137 : decode cX8_readCase 137 = .ok (.iconst 0, 1) := dk_3 (dk_at dksX8_readCase_5 20 rfl rfl)
theorem dX8_readCase_138 : decode cX8_readCase 138 = .ok (.bipush 9, 2) := dk_16 9 (dk_at dksX8_readCase_5 21 rfl rfl)
theorem dX8_readCase_140 : decode cX8_readCase 140 = .ok (.invokevirtual 230, 3) := dk_182 0 230 (dk_at dksX8_readCase_6 0 rfl rfl)
theorem dX8_readCase_143 : decode cX8_readCase 143 = .ok (.istore 4, 2) := dk_54 4 (dk_at dksX8_readCase_6 3 rfl rfl)
theorem dX8_readCase_145 : decode cX8_readCase 145 = .ok (.aload_n 0, 1) := dk_42 (dk_at dksX8_readCase_6 5 rfl rfl)
theorem dX8_readCase_146 : decode cX8_readCase 146 = .ok (.getfield 199, 3) := dk_180 0 199 (dk_at dksX8_readCase_6 6 rfl rfl)
theorem dX8_readCase_149 : decode cX8_readCase 149 = .ok (.ifCond .eq 6, 3) := dk_153 0 6 (dk_at dksX8_readCase_6 9 rfl rfl)
theorem dX8_readCase_152 : decode cX8_readCase 152 = .ok (.goto (-82), 3) := dk_167 255 174 (dk_at dksX8_readCase_6 12 rfl rfl)
theorem dX8_readCase_155 : decode cX8_readCase 155 = .ok (.aload_n 0, 1) := dk_42 (dk_at dksX8_readCase_6 15 rfl rfl)
theorem dX8_readCase_156 : decode cX8_readCase 156 = .ok (.getfield 55, 3) := dk_180 0 55 (dk_at dksX8_readCase_6 16 rfl rfl)
theorem dX8_readCase_159 : decode cX8_readCase 159 = .ok (.iload_n 1, 1) := dk_27 (dk_at dksX8_readCase_6 19 rfl rfl)
theorem dX8_readCase_160 : decode cX8_readCase 160 = .ok (.iload_n 3, 1) := dk_29 (dk_at dksX8_readCase_6 20 rfl rfl)
theorem dX8_readCase_161 : decode cX8_readCase 161 = .ok (.iadd, 1) := dk_96 (dk_at dksX8_readCase_6 21 rfl rfl)
theorem dX8_readCase_162 : decode cX8_readCase 162 = .ok (.iload 4, 2) := dk_21 4 (dk_at dksX8_readCase_6 22 rfl rfl)
theorem dX8_readCase_164 : decode cX8_readCase 164 = .ok (.iastore, 1) := dk_79 (dk_at dksX8_readCase_7 0 rfl rfl)
theorem dX8_readCase_165 : decode cX8_readCase 165 = .ok (.iinc 2 1, 3) := dk_132 2 1 (dk_at dksX8_readCase_7 1 rfl rfl)
theorem dX8_readCase_168 : decode cX8_readCase 168 = .ok (.goto (-98), 3) := dk_167 255 158 (dk_at dksX8_readCase_7 4 rfl rfl)
theorem dX8_readCase_171 : decode cX8_readCase 171 = .ok (.aload_n 0, 1) := dk_42 (dk_at dksX8_readCase_7 7 rfl rfl)
theorem dX8_readCase_172 : decode cX8_readCase 172 = .ok (.getfield 34, 3) := dk_180 0 34 (dk_at dksX8_readCase_7 8 rfl rfl)
theorem dX8_readCase_175 : decode cX8_readCase 175 = .ok (.bipush 12, 2) := dk_16 12 (dk_at dksX8_readCase_7 11 rfl rfl)
theorem dX8_readCase_177 : decode cX8_readCase 177 = .ok (.dup2, 1) := dk_92 (dk_at dksX8_readCase_7 13 rfl rfl)
theorem dX8_readCase_178 : decode cX8_readCase 178 = .ok (.iaload, 1) := dk_46 (dk_at dksX8_readCase_7 14 rfl rfl)
theorem dX8_readCase_179 : decode cX8_readCase 179 = .ok (.iconst 1, 1) := dk_4 (dk_at dksX8_readCase_7 15 rfl rfl)
theorem dX8_readCase_180 : decode cX8_readCase 180 = .ok (.iadd, 1) := dk_96 (dk_at dksX8_readCase_7 16 rfl rfl)
theorem dX8_readCase_181 : decode cX8_readCase 181 = .ok (.iastore, 1) := dk_79 (dk_at dksX8_readCase_7 17 rfl rfl)
theorem dX8_readCase_182 : decode cX8_readCase 182 = .ok (.return_, 1) := dk_177 (dk_at dksX8_readCase_7 18 rfl rfl)
abbrev cX8_takeOver : ByteArray := prog_20_method_38_code
def yX8_takeOver : MethodName := ⟨RX8, "takeOver", "()V"⟩
def dkwX8_takeOver_4 : List UInt8 := [3, 181, 1, 70, 42, 3, 181, 1, 73, 42, 182, 1, 77, 177]
abbrev dktX8_takeOver_4 : List UInt8 := dkwX8_takeOver_4 ++ []
def dkwX8_takeOver_3 : List UInt8 := [181, 1, 55, 42, 3, 181, 1, 58, 42, 3, 181, 1, 61, 42, 3, 181, 1, 64, 42, 3, 181, 1, 67, 42]
abbrev dktX8_takeOver_3 : List UInt8 := dkwX8_takeOver_3 ++ dktX8_takeOver_4
def dkwX8_takeOver_2 : List UInt8 := [184, 1, 51, 42, 180, 0, 55, 184, 1, 51, 42, 180, 0, 57, 184, 1, 51, 42, 42, 180, 0, 34, 4, 46]
abbrev dktX8_takeOver_2 : List UInt8 := dkwX8_takeOver_2 ++ dktX8_takeOver_3
def dkwX8_takeOver_1 : List UInt8 := [180, 0, 44, 184, 1, 51, 42, 180, 0, 47, 184, 1, 51, 42, 180, 0, 49, 184, 1, 51, 42, 180, 0, 52]
abbrev dktX8_takeOver_1 : List UInt8 := dkwX8_takeOver_1 ++ dktX8_takeOver_2
def dkwX8_takeOver_0 : List UInt8 := [42, 180, 0, 34, 184, 1, 51, 42, 180, 0, 38, 184, 1, 51, 42, 180, 0, 41, 184, 1, 51, 42]
abbrev dktX8_takeOver_0 : List UInt8 := dkwX8_takeOver_0 ++ dktX8_takeOver_1
theorem dksX8_takeOver_0 : cX8_takeOver.data.toList.drop 0 = dktX8_takeOver_0 := by decide +kernel
theorem dksX8_takeOver_1 : cX8_takeOver.data.toList.drop 22 = dktX8_takeOver_1 := dk_seg dksX8_takeOver_0 22 rfl rfl
theorem dksX8_takeOver_2 : cX8_takeOver.data.toList.drop 46 = dktX8_takeOver_2 := dk_seg dksX8_takeOver_1 24 rfl rfl
theorem dksX8_takeOver_3 : cX8_takeOver.data.toList.drop 70 = dktX8_takeOver_3 := dk_seg dksX8_takeOver_2 24 rfl rfl
theorem dksX8_takeOver_4 : cX8_takeOver.data.toList.drop 94 = dktX8_takeOver_4 := dk_seg dksX8_takeOver_3 24 rfl rfl
theorem dX8_takeOver_0 : decode cX8_takeOver 0 = .ok (.aload_n 0, 1) := dk_42 (dk_at dksX8_takeOver_0 0 rfl rfl)
theorem dX8_takeOver_1 : decode cX8_takeOver 1 = .ok (.getfield 34, 3) := dk_180 0 34 (dk_at dksX8_takeOver_0 1 rfl rfl)
theorem dX8_takeOver_4 : decode cX8_takeOver 4 = .ok (.invokestatic 307, 3) := dk_184 1 51 (dk_at dksX8_takeOver_0 4 rfl rfl)
theorem dX8_takeOver_7 : decode cX8_takeOver 7 = .ok (.aload_n 0, 1) := dk_42 (dk_at dksX8_takeOver_0 7 rfl rfl)
theorem dX8_takeOver_8 : decode cX8_takeOver 8 = .ok (.getfield 38, 3) := dk_180 0 38 (dk_at dksX8_takeOver_0 8 rfl rfl)
theorem dX8_takeOver_11 : decode cX8_takeOver 11 = .ok (.invokestatic 307, 3) := dk_184 1 51 (dk_at dksX8_takeOver_0 11 rfl rfl)
theorem dX8_takeOver_14 : decode cX8_takeOver 14 = .ok (.aload_n 0, 1) := dk_42 (dk_at dksX8_takeOver_0 14 rfl rfl)
theorem dX8_takeOver_15 : decode cX8_takeOver 15 = .ok (.getfield 41, 3) := dk_180 0 41 (dk_at dksX8_takeOver_0 15 rfl rfl)
theorem dX8_takeOver_18 : decode cX8_takeOver 18 = .ok (.invokestatic 307, 3) := dk_184 1 51 (dk_at dksX8_takeOver_0 18 rfl rfl)
theorem dX8_takeOver_21 : decode cX8_takeOver 21 = .ok (.aload_n 0, 1) := dk_42 (dk_at dksX8_takeOver_0 21 rfl rfl)
theorem dX8_takeOver_22 : decode cX8_takeOver 22 = .ok (.getfield 44, 3) := dk_180 0 44 (dk_at dksX8_takeOver_1 0 rfl rfl)
theorem dX8_takeOver_25 : decode cX8_takeOver 25 = .ok (.invokestatic 307, 3) := dk_184 1 51 (dk_at dksX8_takeOver_1 3 rfl rfl)
theorem dX8_takeOver_28 : decode cX8_takeOver 28 = .ok (.aload_n 0, 1) := dk_42 (dk_at dksX8_takeOver_1 6 rfl rfl)
theorem dX8_takeOver_29 : decode cX8_takeOver 29 = .ok (.getfield 47, 3) := dk_180 0 47 (dk_at dksX8_takeOver_1 7 rfl rfl)
theorem dX8_takeOver_32 : decode cX8_takeOver 32 = .ok (.invokestatic 307, 3) := dk_184 1 51 (dk_at dksX8_takeOver_1 10 rfl rfl)
theorem dX8_takeOver_35 : decode cX8_takeOver 35 = .ok (.aload_n 0, 1) := dk_42 (dk_at dksX8_takeOver_1 13 rfl rfl)
theorem dX8_takeOver_36 : decode cX8_takeOver 36 = .ok (.getfield 49, 3) := dk_180 0 49 (dk_at dksX8_takeOver_1 14 rfl rfl)
theorem dX8_takeOver_39 : decode cX8_takeOver 39 = .ok (.invokestatic 307, 3) := dk_184 1 51 (dk_at dksX8_takeOver_1 17 rfl rfl)
theorem dX8_takeOver_42 : decode cX8_takeOver 42 = .ok (.aload_n 0, 1) := dk_42 (dk_at dksX8_takeOver_1 20 rfl rfl)
theorem dX8_takeOver_43 : decode cX8_takeOver 43 = .ok (.getfield 52, 3) := dk_180 0 52 (dk_at dksX8_takeOver_1 21 rfl rfl)
theorem dX8_takeOver_46 : decode cX8_takeOver 46 = .ok (.invokestatic 307, 3) := dk_184 1 51 (dk_at dksX8_takeOver_2 0 rfl rfl)
theorem dX8_takeOver_49 : decode cX8_takeOver 49 = .ok (.aload_n 0, 1) := dk_42 (dk_at dksX8_takeOver_2 3 rfl rfl)
theorem dX8_takeOver_50 : decode cX8_takeOver 50 = .ok (.getfield 55, 3) := dk_180 0 55 (dk_at dksX8_takeOver_2 4 rfl rfl)
theorem dX8_takeOver_53 : decode cX8_takeOver 53 = .ok (.invokestatic 307, 3) := dk_184 1 51 (dk_at dksX8_takeOver_2 7 rfl rfl)
theorem dX8_takeOver_56 : decode cX8_takeOver 56 = .ok (.aload_n 0, 1) := dk_42 (dk_at dksX8_takeOver_2 10 rfl rfl)
theorem dX8_takeOver_57 : decode cX8_takeOver 57 = .ok (.getfield 57, 3) := dk_180 0 57 (dk_at dksX8_takeOver_2 11 rfl rfl)
theorem dX8_takeOver_60 : decode cX8_takeOver 60 = .ok (.invokestatic 307, 3) := dk_184 1 51 (dk_at dksX8_takeOver_2 14 rfl rfl)
theorem dX8_takeOver_63 : decode cX8_takeOver 63 = .ok (.aload_n 0, 1) := dk_42 (dk_at dksX8_takeOver_2 17 rfl rfl)
theorem dX8_takeOver_64 : decode cX8_takeOver 64 = .ok (.aload_n 0, 1) := dk_42 (dk_at dksX8_takeOver_2 18 rfl rfl)
theorem dX8_takeOver_65 : decode cX8_takeOver 65 = .ok (.getfield 34, 3) := dk_180 0 34 (dk_at dksX8_takeOver_2 19 rfl rfl)
theorem dX8_takeOver_68 : decode cX8_takeOver 68 = .ok (.iconst 1, 1) := dk_4 (dk_at dksX8_takeOver_2 22 rfl rfl)
theorem dX8_takeOver_69 : decode cX8_takeOver 69 = .ok (.iaload, 1) := dk_46 (dk_at dksX8_takeOver_2 23 rfl rfl)
theorem dX8_takeOver_70 : decode cX8_takeOver 70 = .ok (.putfield 311, 3) := dk_181 1 55 (dk_at dksX8_takeOver_3 0 rfl rfl)
theorem dX8_takeOver_73 : decode cX8_takeOver 73 = .ok (.aload_n 0, 1) := dk_42 (dk_at dksX8_takeOver_3 3 rfl rfl)
theorem dX8_takeOver_74 : decode cX8_takeOver 74 = .ok (.iconst 0, 1) := dk_3 (dk_at dksX8_takeOver_3 4 rfl rfl)
theorem dX8_takeOver_75 : decode cX8_takeOver 75 = .ok (.putfield 314, 3) := dk_181 1 58 (dk_at dksX8_takeOver_3 5 rfl rfl)
theorem dX8_takeOver_78 : decode cX8_takeOver 78 = .ok (.aload_n 0, 1) := dk_42 (dk_at dksX8_takeOver_3 8 rfl rfl)
theorem dX8_takeOver_79 : decode cX8_takeOver 79 = .ok (.iconst 0, 1) := dk_3 (dk_at dksX8_takeOver_3 9 rfl rfl)
theorem dX8_takeOver_80 : decode cX8_takeOver 80 = .ok (.putfield 317, 3) := dk_181 1 61 (dk_at dksX8_takeOver_3 10 rfl rfl)
theorem dX8_takeOver_83 : decode cX8_takeOver 83 = .ok (.aload_n 0, 1) := dk_42 (dk_at dksX8_takeOver_3 13 rfl rfl)
theorem dX8_takeOver_84 : decode cX8_takeOver 84 = .ok (.iconst 0, 1) := dk_3 (dk_at dksX8_takeOver_3 14 rfl rfl)
theorem dX8_takeOver_85 : decode cX8_takeOver 85 = .ok (.putfield 320, 3) := dk_181 1 64 (dk_at dksX8_takeOver_3 15 rfl rfl)
theorem dX8_takeOver_88 : decode cX8_takeOver 88 = .ok (.aload_n 0, 1) := dk_42 (dk_at dksX8_takeOver_3 18 rfl rfl)
theorem dX8_takeOver_89 : decode cX8_takeOver 89 = .ok (.iconst 0, 1) := dk_3 (dk_at dksX8_takeOver_3 19 rfl rfl)
theorem dX8_takeOver_90 : decode cX8_takeOver 90 = .ok (.putfield 323, 3) := dk_181 1 67 (dk_at dksX8_takeOver_3 20 rfl rfl)
theorem dX8_takeOver_93 : decode cX8_takeOver 93 = .ok (.aload_n 0, 1) := dk_42 (dk_at dksX8_takeOver_3 23 rfl rfl)
theorem dX8_takeOver_94 : decode cX8_takeOver 94 = .ok (.iconst 0, 1) := dk_3 (dk_at dksX8_takeOver_4 0 rfl rfl)
theorem dX8_takeOver_95 : decode cX8_takeOver 95 = .ok (.putfield 326, 3) := dk_181 1 70 (dk_at dksX8_takeOver_4 1 rfl rfl)
theorem dX8_takeOver_98 : decode cX8_takeOver 98 = .ok (.aload_n 0, 1) := dk_42 (dk_at dksX8_takeOver_4 4 rfl rfl)
theorem dX8_takeOver_99 : decode cX8_takeOver 99 = .ok (.iconst 0, 1) := dk_3 (dk_at dksX8_takeOver_4 5 rfl rfl)
theorem dX8_takeOver_100 : decode cX8_takeOver 100 = .ok (.putfield 329, 3) := dk_181 1 73 (dk_at dksX8_takeOver_4 6 rfl rfl)
theorem dX8_takeOver_103 : decode cX8_takeOver 103 = .ok (.aload_n 0, 1) := dk_42 (dk_at dksX8_takeOver_4 9 rfl rfl)
theorem dX8_takeOver_104 : decode cX8_takeOver 104 = .ok (.invokevirtual 333, 3) := dk_182 1 77 (dk_at dksX8_takeOver_4 10 rfl rfl)
theorem dX8_takeOver_107 : decode cX8_takeOver 107 = .ok (.return_, 1) := dk_177 (dk_at dksX8_takeOver_4 13 rfl rfl)
abbrev cX8_takeHalf : ByteArray := prog_20_method_37_code
def yX8_takeHalf : MethodName := ⟨RX8, "takeHalf", "([I)V"⟩
def dkwX8_takeHalf_1 : List UInt8 := [167, 255, 234, 177]
abbrev dktX8_takeHalf_1 : List UInt8 := dkwX8_takeHalf_1 ++ []
def dkwX8_takeHalf_0 : List UInt8 := [3, 60, 27, 42, 190, 5, 108, 162, 0, 20, 42, 27, 42, 42, 190, 5, 108, 27, 96, 46, 79, 132, 1, 1]
abbrev dktX8_takeHalf_0 : List UInt8 := dkwX8_takeHalf_0 ++ dktX8_takeHalf_1
theorem dksX8_takeHalf_0 : cX8_takeHalf.data.toList.drop 0 = dktX8_takeHalf_0 := by decide +kernel
theorem dksX8_takeHalf_1 : cX8_takeHalf.data.toList.drop 24 = dktX8_takeHalf_1 := dk_seg dksX8_takeHalf_0 24 rfl rfl
theorem dX8_takeHalf_0 : decode cX8_takeHalf 0 = .ok (.iconst 0, 1) := dk_3 (dk_at dksX8_takeHalf_0 0 rfl rfl)
theorem dX8_takeHalf_1 : decode cX8_takeHalf 1 = .ok (.istore_n 1, 1) := dk_60 (dk_at dksX8_takeHalf_0 1 rfl rfl)
theorem dX8_takeHalf_2 : decode cX8_takeHalf 2 = .ok (.iload_n 1, 1) := dk_27 (dk_at dksX8_takeHalf_0 2 rfl rfl)
theorem dX8_takeHalf_3 : decode cX8_takeHalf 3 = .ok (.aload_n 0, 1) := dk_42 (dk_at dksX8_takeHalf_0 3 rfl rfl)
theorem dX8_takeHalf_4 : decode cX8_takeHalf 4 = .ok (.arraylength, 1) := dk_190 (dk_at dksX8_takeHalf_0 4 rfl rfl)
theorem dX8_takeHalf_5 : decode cX8_takeHalf 5 = .ok (.iconst 2, 1) := dk_5 (dk_at dksX8_takeHalf_0 5 rfl rfl)
theorem dX8_takeHalf_6 : decode cX8_takeHalf 6 = .ok (.idiv, 1) := dk_108 (dk_at dksX8_takeHalf_0 6 rfl rfl)
theorem dX8_takeHalf_7 : decode cX8_takeHalf 7 = .ok (.if_icmp .ge 20, 3) := dk_162 0 20 (dk_at dksX8_takeHalf_0 7 rfl rfl)
theorem dX8_takeHalf_10 : decode cX8_takeHalf 10 = .ok (.aload_n 0, 1) := dk_42 (dk_at dksX8_takeHalf_0 10 rfl rfl)
theorem dX8_takeHalf_11 : decode cX8_takeHalf 11 = .ok (.iload_n 1, 1) := dk_27 (dk_at dksX8_takeHalf_0 11 rfl rfl)
theorem dX8_takeHalf_12 : decode cX8_takeHalf 12 = .ok (.aload_n 0, 1) := dk_42 (dk_at dksX8_takeHalf_0 12 rfl rfl)
theorem dX8_takeHalf_13 : decode cX8_takeHalf 13 = .ok (.aload_n 0, 1) := dk_42 (dk_at dksX8_takeHalf_0 13 rfl rfl)
theorem dX8_takeHalf_14 : decode cX8_takeHalf 14 = .ok (.arraylength, 1) := dk_190 (dk_at dksX8_takeHalf_0 14 rfl rfl)
theorem dX8_takeHalf_15 : decode cX8_takeHalf 15 = .ok (.iconst 2, 1) := dk_5 (dk_at dksX8_takeHalf_0 15 rfl rfl)
theorem dX8_takeHalf_16 : decode cX8_takeHalf 16 = .ok (.idiv, 1) := dk_108 (dk_at dksX8_takeHalf_0 16 rfl rfl)
theorem dX8_takeHalf_17 : decode cX8_takeHalf 17 = .ok (.iload_n 1, 1) := dk_27 (dk_at dksX8_takeHalf_0 17 rfl rfl)
theorem dX8_takeHalf_18 : decode cX8_takeHalf 18 = .ok (.iadd, 1) := dk_96 (dk_at dksX8_takeHalf_0 18 rfl rfl)
theorem dX8_takeHalf_19 : decode cX8_takeHalf 19 = .ok (.iaload, 1) := dk_46 (dk_at dksX8_takeHalf_0 19 rfl rfl)
theorem dX8_takeHalf_20 : decode cX8_takeHalf 20 = .ok (.iastore, 1) := dk_79 (dk_at dksX8_takeHalf_0 20 rfl rfl)
theorem dX8_takeHalf_21 : decode cX8_takeHalf 21 = .ok (.iinc 1 1, 3) := dk_132 1 1 (dk_at dksX8_takeHalf_0 21 rfl rfl)
theorem dX8_takeHalf_24 : decode cX8_takeHalf 24 = .ok (.goto (-22), 3) := dk_167 255 234 (dk_at dksX8_takeHalf_1 0 rfl rfl)
theorem dX8_takeHalf_27 : decode cX8_takeHalf 27 = .ok (.return_, 1) := dk_177 (dk_at dksX8_takeHalf_1 3 rfl rfl)
abbrev cX8_tellFar : ByteArray := prog_20_method_40_code
def yX8_tellFar : MethodName := ⟨RX8, "tellFar", "()V"⟩
def dkwX8_tellFar_7 : List UInt8 := [167, 255, 199, 132, 2, 1, 167, 255, 181, 132, 1, 1, 167, 255, 163, 177]
abbrev dktX8_tellFar_7 : List UInt8 := dkwX8_tellFar_7 ++ []
def dkwX8_tellFar_6 : List UInt8 := [27, 184, 1, 20, 46, 42, 180, 0, 70, 27, 29, 184, 1, 20, 46, 96, 184, 0, 187, 79, 132, 3, 1]
abbrev dktX8_tellFar_6 : List UInt8 := dkwX8_tellFar_6 ++ dktX8_tellFar_7
def dkwX8_tellFar_5 : List UInt8 := [42, 180, 0, 70, 28, 29, 184, 1, 20, 42, 180, 0, 70, 28, 29, 184, 1, 20, 46, 42, 180, 0, 70, 28]
abbrev dktX8_tellFar_5 : List UInt8 := dkwX8_tellFar_5 ++ dktX8_tellFar_6
def dkwX8_tellFar_4 : List UInt8 := [3, 61, 28, 42, 180, 0, 34, 3, 46, 162, 0, 71, 3, 62, 29, 42, 180, 0, 34, 3, 46, 162, 0, 53]
abbrev dktX8_tellFar_4 : List UInt8 := dkwX8_tellFar_4 ++ dktX8_tellFar_5
def dkwX8_tellFar_3 : List UInt8 := [132, 2, 1, 167, 255, 196, 132, 1, 1, 167, 255, 178, 3, 60, 27, 42, 180, 0, 34, 3, 46, 162, 0, 89]
abbrev dktX8_tellFar_3 : List UInt8 := dkwX8_tellFar_3 ++ dktX8_tellFar_4
def dkwX8_tellFar_2 : List UInt8 := [184, 1, 20, 46, 158, 0, 16, 42, 180, 0, 38, 27, 28, 184, 1, 20, 46, 167, 0, 5, 18, 186, 79]
abbrev dktX8_tellFar_2 : List UInt8 := dkwX8_tellFar_2 ++ dktX8_tellFar_3
def dkwX8_tellFar_1 : List UInt8 := [42, 180, 0, 70, 27, 28, 184, 1, 20, 27, 28, 160, 0, 7, 3, 167, 0, 31, 42, 180, 0, 38, 27, 28]
abbrev dktX8_tellFar_1 : List UInt8 := dkwX8_tellFar_1 ++ dktX8_tellFar_2
def dkwX8_tellFar_0 : List UInt8 := [3, 60, 27, 42, 180, 0, 34, 3, 46, 162, 0, 74, 3, 61, 28, 42, 180, 0, 34, 3, 46, 162, 0, 56]
abbrev dktX8_tellFar_0 : List UInt8 := dkwX8_tellFar_0 ++ dktX8_tellFar_1
theorem dksX8_tellFar_0 : cX8_tellFar.data.toList.drop 0 = dktX8_tellFar_0 := by decide +kernel
theorem dksX8_tellFar_1 : cX8_tellFar.data.toList.drop 24 = dktX8_tellFar_1 := dk_seg dksX8_tellFar_0 24 rfl rfl
theorem dksX8_tellFar_2 : cX8_tellFar.data.toList.drop 48 = dktX8_tellFar_2 := dk_seg dksX8_tellFar_1 24 rfl rfl
theorem dksX8_tellFar_3 : cX8_tellFar.data.toList.drop 71 = dktX8_tellFar_3 := dk_seg dksX8_tellFar_2 23 rfl rfl
theorem dksX8_tellFar_4 : cX8_tellFar.data.toList.drop 95 = dktX8_tellFar_4 := dk_seg dksX8_tellFar_3 24 rfl rfl
theorem dksX8_tellFar_5 : cX8_tellFar.data.toList.drop 119 = dktX8_tellFar_5 := dk_seg dksX8_tellFar_4 24 rfl rfl
theorem dksX8_tellFar_6 : cX8_tellFar.data.toList.drop 143 = dktX8_tellFar_6 := dk_seg dksX8_tellFar_5 24 rfl rfl
theorem dksX8_tellFar_7 : cX8_tellFar.data.toList.drop 166 = dktX8_tellFar_7 := dk_seg dksX8_tellFar_6 23 rfl rfl
theorem dX8_tellFar_0 : decode cX8_tellFar 0 = .ok (.iconst 0, 1) := dk_3 (dk_at dksX8_tellFar_0 0 rfl rfl)
theorem dX8_tellFar_1 : decode cX8_tellFar 1 = .ok (.istore_n 1, 1) := dk_60 (dk_at dksX8_tellFar_0 1 rfl rfl)
theorem dX8_tellFar_2 : decode cX8_tellFar 2 = .ok (.iload_n 1, 1) := dk_27 (dk_at dksX8_tellFar_0 2 rfl rfl)
theorem dX8_tellFar_3 : decode cX8_tellFar 3 = .ok (.aload_n 0, 1) := dk_42 (dk_at dksX8_tellFar_0 3 rfl rfl)
theorem dX8_tellFar_4 : decode cX8_tellFar 4 = .ok (.getfield 34, 3) := dk_180 0 34 (dk_at dksX8_tellFar_0 4 rfl rfl)
theorem dX8_tellFar_7 : decode cX8_tellFar 7 = .ok (.iconst 0, 1) := dk_3 (dk_at dksX8_tellFar_0 7 rfl rfl)
theorem dX8_tellFar_8 : decode cX8_tellFar 8 = .ok (.iaload, 1) := dk_46 (dk_at dksX8_tellFar_0 8 rfl rfl)
theorem dX8_tellFar_9 : decode cX8_tellFar 9 = .ok (.if_icmp .ge 74, 3) := dk_162 0 74 (dk_at dksX8_tellFar_0 9 rfl rfl)
theorem dX8_tellFar_12 : decode cX8_tellFar 12 = .ok (.iconst 0, 1) := dk_3 (dk_at dksX8_tellFar_0 12 rfl rfl)
theorem dX8_tellFar_13 : decode cX8_tellFar 13 = .ok (.istore_n 2, 1) := dk_61 (dk_at dksX8_tellFar_0 13 rfl rfl)
theorem dX8_tellFar_14 : decode cX8_tellFar 14 = .ok (.iload_n 2, 1) := dk_28 (dk_at dksX8_tellFar_0 14 rfl rfl)
theorem dX8_tellFar_15 : decode cX8_tellFar 15 = .ok (.aload_n 0, 1) := dk_42 (dk_at dksX8_tellFar_0 15 rfl rfl)
theorem dX8_tellFar_16 : decode cX8_tellFar 16 = .ok (.getfield 34, 3) := dk_180 0 34 (dk_at dksX8_tellFar_0 16 rfl rfl)
theorem dX8_tellFar_19 : decode cX8_tellFar 19 = .ok (.iconst 0, 1) := dk_3 (dk_at dksX8_tellFar_0 19 rfl rfl)
theorem dX8_tellFar_20 : decode cX8_tellFar 20 = .ok (.iaload, 1) := dk_46 (dk_at dksX8_tellFar_0 20 rfl rfl)
theorem dX8_tellFar_21 : decode cX8_tellFar 21 = .ok (.if_icmp .ge 56, 3) := dk_162 0 56 (dk_at dksX8_tellFar_0 21 rfl rfl)
theorem dX8_tellFar_24 : decode cX8_tellFar 24 = .ok (.aload_n 0, 1) := dk_42 (dk_at dksX8_tellFar_1 0 rfl rfl)
theorem dX8_tellFar_25 : decode cX8_tellFar 25 = .ok (.getfield 70, 3) := dk_180 0 70 (dk_at dksX8_tellFar_1 1 rfl rfl)
theorem dX8_tellFar_28 : decode cX8_tellFar 28 = .ok (.iload_n 1, 1) := dk_27 (dk_at dksX8_tellFar_1 4 rfl rfl)
theorem dX8_tellFar_29 : decode cX8_tellFar 29 = .ok (.iload_n 2, 1) := dk_28 (dk_at dksX8_tellFar_1 5 rfl rfl)
theorem dX8_tellFar_30 : decode cX8_tellFar 30 = .ok (.invokestatic 276, 3) := dk_184 1 20 (dk_at dksX8_tellFar_1 6 rfl rfl)
theorem dX8_tellFar_33 : decode cX8_tellFar 33 = .ok (.iload_n 1, 1) := dk_27 (dk_at dksX8_tellFar_1 9 rfl rfl)
theorem dX8_tellFar_34 : decode cX8_tellFar 34 = .ok (.iload_n 2, 1) := dk_28 (dk_at dksX8_tellFar_1 10 rfl rfl)
theorem dX8_tellFar_35 : decode cX8_tellFar 35 = .ok (.if_icmp .ne 7, 3) := dk_160 0 7 (dk_at dksX8_tellFar_1 11 rfl rfl)
theorem dX8_tellFar_38 : decode cX8_tellFar 38 = .ok (.iconst 0, 1) := dk_3 (dk_at dksX8_tellFar_1 14 rfl rfl)
theorem dX8_tellFar_39 : decode cX8_tellFar 39 = .ok (.goto 31, 3) := dk_167 0 31 (dk_at dksX8_tellFar_1 15 rfl rfl)
theorem dX8_tellFar_42 : decode cX8_tellFar 42 = .ok (.aload_n 0, 1) := dk_42 (dk_at dksX8_tellFar_1 18 rfl rfl)
theorem dX8_tellFar_43 : decode cX8_tellFar 43 = .ok (.getfield 38, 3) := dk_180 0 38 (dk_at dksX8_tellFar_1 19 rfl rfl)
theorem dX8_tellFar_46 : decode cX8_tellFar 46 = .ok (.iload_n 1, 1) := dk_27 (dk_at dksX8_tellFar_1 22 rfl rfl)
theorem dX8_tellFar_47 : decode cX8_tellFar 47 = .ok (.iload_n 2, 1) := dk_28 (dk_at dksX8_tellFar_1 23 rfl rfl)
theorem dX8_tellFar_48 : decode cX8_tellFar 48 = .ok (.invokestatic 276, 3) := dk_184 1 20 (dk_at dksX8_tellFar_2 0 rfl rfl)
theorem dX8_tellFar_51 : decode cX8_tellFar 51 = .ok (.iaload, 1) := dk_46 (dk_at dksX8_tellFar_2 3 rfl rfl)
theorem dX8_tellFar_52 : decode cX8_tellFar 52 = .ok (.ifCond .le 16, 3) := dk_158 0 16 (dk_at dksX8_tellFar_2 4 rfl rfl)
theorem dX8_tellFar_55 : decode cX8_tellFar 55 = .ok (.aload_n 0, 1) := dk_42 (dk_at dksX8_tellFar_2 7 rfl rfl)
theorem dX8_tellFar_56 : decode cX8_tellFar 56 = .ok (.getfield 38, 3) := dk_180 0 38 (dk_at dksX8_tellFar_2 8 rfl rfl)
theorem dX8_tellFar_59 : decode cX8_tellFar 59 = .ok (.iload_n 1, 1) := dk_27 (dk_at dksX8_tellFar_2 11 rfl rfl)
theorem dX8_tellFar_60 : decode cX8_tellFar 60 = .ok (.iload_n 2, 1) := dk_28 (dk_at dksX8_tellFar_2 12 rfl rfl)
theorem dX8_tellFar_61 : decode cX8_tellFar 61 = .ok (.invokestatic 276, 3) := dk_184 1 20 (dk_at dksX8_tellFar_2 13 rfl rfl)
theorem dX8_tellFar_64 : decode cX8_tellFar 64 = .ok (.iaload, 1) := dk_46 (dk_at dksX8_tellFar_2 16 rfl rfl)
theorem dX8_tellFar_65 : decode cX8_tellFar 65 = .ok (.goto 5, 3) := dk_167 0 5 (dk_at dksX8_tellFar_2 17 rfl rfl)
theorem dX8_tellFar_68 : decode cX8_tellFar 68 = .ok (.ldc 186, 2) := dk_18 186 (dk_at dksX8_tellFar_2 20 rfl rfl)
theorem dX8_tellFar_70 : decode cX8_tellFar 70 = .ok (.iastore, 1) := dk_79 (dk_at dksX8_tellFar_2 22 rfl rfl)
theorem dX8_tellFar_71 : decode cX8_tellFar 71 = .ok (.iinc 2 1, 3) := dk_132 2 1 (dk_at dksX8_tellFar_3 0 rfl rfl)
theorem dX8_tellFar_74 : decode cX8_tellFar 74 = .ok (.goto (-60), 3) := dk_167 255 196 (dk_at dksX8_tellFar_3 3 rfl rfl)
theorem dX8_tellFar_77 : decode cX8_tellFar 77 = .ok (.iinc 1 1, 3) := dk_132 1 1 (dk_at dksX8_tellFar_3 6 rfl rfl)
theorem dX8_tellFar_80 : decode cX8_tellFar 80 = .ok (.goto (-78), 3) := dk_167 255 178 (dk_at dksX8_tellFar_3 9 rfl rfl)
theorem dX8_tellFar_83 : decode cX8_tellFar 83 = .ok (.iconst 0, 1) := dk_3 (dk_at dksX8_tellFar_3 12 rfl rfl)
theorem dX8_tellFar_84 : decode cX8_tellFar 84 = .ok (.istore_n 1, 1) := dk_60 (dk_at dksX8_tellFar_3 13 rfl rfl)
theorem dX8_tellFar_85 : decode cX8_tellFar 85 = .ok (.iload_n 1, 1) := dk_27 (dk_at dksX8_tellFar_3 14 rfl rfl)
theorem dX8_tellFar_86 : decode cX8_tellFar 86 = .ok (.aload_n 0, 1) := dk_42 (dk_at dksX8_tellFar_3 15 rfl rfl)
theorem dX8_tellFar_87 : decode cX8_tellFar 87 = .ok (.getfield 34, 3) := dk_180 0 34 (dk_at dksX8_tellFar_3 16 rfl rfl)
theorem dX8_tellFar_90 : decode cX8_tellFar 90 = .ok (.iconst 0, 1) := dk_3 (dk_at dksX8_tellFar_3 19 rfl rfl)
theorem dX8_tellFar_91 : decode cX8_tellFar 91 = .ok (.iaload, 1) := dk_46 (dk_at dksX8_tellFar_3 20 rfl rfl)
theorem dX8_tellFar_92 : decode cX8_tellFar 92 = .ok (.if_icmp .ge 89, 3) := dk_162 0 89 (dk_at dksX8_tellFar_3 21 rfl rfl)
theorem dX8_tellFar_95 : decode cX8_tellFar 95 = .ok (.iconst 0, 1) := dk_3 (dk_at dksX8_tellFar_4 0 rfl rfl)
theorem dX8_tellFar_96 : decode cX8_tellFar 96 = .ok (.istore_n 2, 1) := dk_61 (dk_at dksX8_tellFar_4 1 rfl rfl)
theorem dX8_tellFar_97 : decode cX8_tellFar 97 = .ok (.iload_n 2, 1) := dk_28 (dk_at dksX8_tellFar_4 2 rfl rfl)
theorem dX8_tellFar_98 : decode cX8_tellFar 98 = .ok (.aload_n 0, 1) := dk_42 (dk_at dksX8_tellFar_4 3 rfl rfl)
theorem dX8_tellFar_99 : decode cX8_tellFar 99 = .ok (.getfield 34, 3) := dk_180 0 34 (dk_at dksX8_tellFar_4 4 rfl rfl)
theorem dX8_tellFar_102 : decode cX8_tellFar 102 = .ok (.iconst 0, 1) := dk_3 (dk_at dksX8_tellFar_4 7 rfl rfl)
theorem dX8_tellFar_103 : decode cX8_tellFar 103 = .ok (.iaload, 1) := dk_46 (dk_at dksX8_tellFar_4 8 rfl rfl)
theorem dX8_tellFar_104 : decode cX8_tellFar 104 = .ok (.if_icmp .ge 71, 3) := dk_162 0 71 (dk_at dksX8_tellFar_4 9 rfl rfl)
theorem dX8_tellFar_107 : decode cX8_tellFar 107 = .ok (.iconst 0, 1) := dk_3 (dk_at dksX8_tellFar_4 12 rfl rfl)
theorem dX8_tellFar_108 : decode cX8_tellFar 108 = .ok (.istore_n 3, 1) := dk_62 (dk_at dksX8_tellFar_4 13 rfl rfl)
theorem dX8_tellFar_109 : decode cX8_tellFar 109 = .ok (.iload_n 3, 1) := dk_29 (dk_at dksX8_tellFar_4 14 rfl rfl)
theorem dX8_tellFar_110 : decode cX8_tellFar 110 = .ok (.aload_n 0, 1) := dk_42 (dk_at dksX8_tellFar_4 15 rfl rfl)
theorem dX8_tellFar_111 : decode cX8_tellFar 111 = .ok (.getfield 34, 3) := dk_180 0 34 (dk_at dksX8_tellFar_4 16 rfl rfl)
theorem dX8_tellFar_114 : decode cX8_tellFar 114 = .ok (.iconst 0, 1) := dk_3 (dk_at dksX8_tellFar_4 19 rfl rfl)
theorem dX8_tellFar_115 : decode cX8_tellFar 115 = .ok (.iaload, 1) := dk_46 (dk_at dksX8_tellFar_4 20 rfl rfl)
theorem dX8_tellFar_116 : decode cX8_tellFar 116 = .ok (.if_icmp .ge 53, 3) := dk_162 0 53 (dk_at dksX8_tellFar_4 21 rfl rfl)
theorem dX8_tellFar_119 : decode cX8_tellFar 119 = .ok (.aload_n 0, 1) := dk_42 (dk_at dksX8_tellFar_5 0 rfl rfl)
theorem dX8_tellFar_120 : decode cX8_tellFar 120 = .ok (.getfield 70, 3) := dk_180 0 70 (dk_at dksX8_tellFar_5 1 rfl rfl)
theorem dX8_tellFar_123 : decode cX8_tellFar 123 = .ok (.iload_n 2, 1) := dk_28 (dk_at dksX8_tellFar_5 4 rfl rfl)
theorem dX8_tellFar_124 : decode cX8_tellFar 124 = .ok (.iload_n 3, 1) := dk_29 (dk_at dksX8_tellFar_5 5 rfl rfl)
theorem dX8_tellFar_125 : decode cX8_tellFar 125 = .ok (.invokestatic 276, 3) := dk_184 1 20 (dk_at dksX8_tellFar_5 6 rfl rfl)
theorem dX8_tellFar_128 : decode cX8_tellFar 128 = .ok (.aload_n 0, 1) := dk_42 (dk_at dksX8_tellFar_5 9 rfl rfl)
theorem dX8_tellFar_129 : decode cX8_tellFar 129 = .ok (.getfield 70, 3) := dk_180 0 70 (dk_at dksX8_tellFar_5 10 rfl rfl)
theorem dX8_tellFar_132 : decode cX8_tellFar 132 = .ok (.iload_n 2, 1) := dk_28 (dk_at dksX8_tellFar_5 13 rfl rfl)
theorem dX8_tellFar_133 : decode cX8_tellFar 133 = .ok (.iload_n 3, 1) := dk_29 (dk_at dksX8_tellFar_5 14 rfl rfl)
theorem dX8_tellFar_134 : decode cX8_tellFar 134 = .ok (.invokestatic 276, 3) := dk_184 1 20 (dk_at dksX8_tellFar_5 15 rfl rfl)
theorem dX8_tellFar_137 : decode cX8_tellFar 137 = .ok (.iaload, 1) := dk_46 (dk_at dksX8_tellFar_5 18 rfl rfl)
theorem dX8_tellFar_138 : decode cX8_tellFar 138 = .ok (.aload_n 0, 1) := dk_42 (dk_at dksX8_tellFar_5 19 rfl rfl)
theorem dX8_tellFar_139 : decode cX8_tellFar 139 = .ok (.getfield 70, 3) := dk_180 0 70 (dk_at dksX8_tellFar_5 20 rfl rfl)
theorem dX8_tellFar_142 : decode cX8_tellFar 142 = .ok (.iload_n 2, 1) := dk_28 (dk_at dksX8_tellFar_5 23 rfl rfl)
theorem dX8_tellFar_143 : decode cX8_tellFar 143 = .ok (.iload_n 1, 1) := dk_27 (dk_at dksX8_tellFar_6 0 rfl rfl)
theorem dX8_tellFar_144 : decode cX8_tellFar 144 = .ok (.invokestatic 276, 3) := dk_184 1 20 (dk_at dksX8_tellFar_6 1 rfl rfl)
theorem dX8_tellFar_147 : decode cX8_tellFar 147 = .ok (.iaload, 1) := dk_46 (dk_at dksX8_tellFar_6 4 rfl rfl)
theorem dX8_tellFar_148 : decode cX8_tellFar 148 = .ok (.aload_n 0, 1) := dk_42 (dk_at dksX8_tellFar_6 5 rfl rfl)
theorem dX8_tellFar_149 : decode cX8_tellFar 149 = .ok (.getfield 70, 3) := dk_180 0 70 (dk_at dksX8_tellFar_6 6 rfl rfl)
theorem dX8_tellFar_152 : decode cX8_tellFar 152 = .ok (.iload_n 1, 1) := dk_27 (dk_at dksX8_tellFar_6 9 rfl rfl)
theorem dX8_tellFar_153 : decode cX8_tellFar 153 = .ok (.iload_n 3, 1) := dk_29 (dk_at dksX8_tellFar_6 10 rfl rfl)
theorem dX8_tellFar_154 : decode cX8_tellFar 154 = .ok (.invokestatic 276, 3) := dk_184 1 20 (dk_at dksX8_tellFar_6 11 rfl rfl)
theorem dX8_tellFar_157 : decode cX8_tellFar 157 = .ok (.iaload, 1) := dk_46 (dk_at dksX8_tellFar_6 14 rfl rfl)
theorem dX8_tellFar_158 : decode cX8_tellFar 158 = .ok (.iadd, 1) := dk_96 (dk_at dksX8_tellFar_6 15 rfl rfl)
theorem dX8_tellFar_159 : decode cX8_tellFar 159 = .ok (.invokestatic 187, 3) := dk_184 0 187 (dk_at dksX8_tellFar_6 16 rfl rfl)
theorem dX8_tellFar_162 : decode cX8_tellFar 162 = .ok (.iastore, 1) := dk_79 (dk_at dksX8_tellFar_6 19 rfl rfl)
theorem dX8_tellFar_163 : decode cX8_tellFar 163 = .ok (.iinc 3 1, 3) := dk_132 3 1 (dk_at dksX8_tellFar_6 20 rfl rfl)
theorem dX8_tellFar_166 : decode cX8_tellFar 166 = .ok (.goto (-57), 3) := dk_167 255 199 (dk_at dksX8_tellFar_7 0 rfl rfl)
theorem dX8_tellFar_169 : decode cX8_tellFar 169 = .ok (.iinc 2 1, 3) := dk_132 2 1 (dk_at dksX8_tellFar_7 3 rfl rfl)
theorem dX8_tellFar_172 : decode cX8_tellFar 172 = .ok (.goto (-75), 3) := dk_167 255 181 (dk_at dksX8_tellFar_7 6 rfl rfl)
theorem dX8_tellFar_175 : decode cX8_tellFar 175 = .ok (.iinc 1 1, 3) := dk_132 1 1 (dk_at dksX8_tellFar_7 9 rfl rfl)
theorem dX8_tellFar_178 : decode cX8_tellFar 178 = .ok (.goto (-93), 3) := dk_167 255 163 (dk_at dksX8_tellFar_7 12 rfl rfl)
theorem dX8_tellFar_181 : decode cX8_tellFar 181 = .ok (.return_, 1) := dk_177 (dk_at dksX8_tellFar_7 15 rfl rfl)
abbrev cX8_fault : ByteArray := prog_20_method_39_code
def yX8_fault : MethodName := ⟨RX8, "fault", "()I"⟩
def dkwX8_fault_0 : List UInt8 := [42, 3, 181, 0, 150, 42, 180, 0, 66, 172]
abbrev dktX8_fault_0 : List UInt8 := dkwX8_fault_0 ++ []
theorem dksX8_fault_0 : cX8_fault.data.toList.drop 0 = dktX8_fault_0 := by decide +kernel
theorem dX8_fault_0 : decode cX8_fault 0 = .ok (.aload_n 0, 1) := dk_42 (dk_at dksX8_fault_0 0 rfl rfl)
theorem dX8_fault_1 : decode cX8_fault 1 = .ok (.iconst 0, 1) := dk_3 (dk_at dksX8_fault_0 1 rfl rfl)
theorem dX8_fault_2 : decode cX8_fault 2 = .ok (.putfield 150, 3) := dk_181 0 150 (dk_at dksX8_fault_0 2 rfl rfl)
theorem dX8_fault_5 : decode cX8_fault 5 = .ok (.aload_n 0, 1) := dk_42 (dk_at dksX8_fault_0 5 rfl rfl)
theorem dX8_fault_6 : decode cX8_fault 6 = .ok (.getfield 66, 3) := dk_180 0 66 (dk_at dksX8_fault_0 6 rfl rfl)
theorem dX8_fault_9 : decode cX8_fault 9 = .ok (.ireturn, 1) := dk_172 (dk_at dksX8_fault_0 9 rfl rfl)
abbrev cX8_count : ByteArray := prog_20_method_66_code
def yX8_count : MethodName := ⟨RX8, "count", "(I)I"⟩
def dkwX8_count_5 : List UInt8 := [42, 180, 0, 157, 172, 42, 180, 0, 60, 27, 16, 13, 100, 46, 172, 42, 4, 182, 1, 42, 172]
abbrev dktX8_count_5 : List UInt8 := dkwX8_count_5 ++ []
def dkwX8_count_4 : List UInt8 := [180, 1, 61, 172, 42, 180, 1, 64, 172, 42, 182, 1, 154, 172, 42, 180, 1, 67, 172, 42, 180, 1, 70, 172]
abbrev dktX8_count_4 : List UInt8 := dkwX8_count_4 ++ dktX8_count_5
def dkwX8_count_3 : List UInt8 := [180, 0, 34, 7, 46, 172, 42, 180, 0, 34, 8, 46, 172, 42, 180, 1, 55, 172, 42, 180, 1, 58, 172, 42]
abbrev dktX8_count_3 : List UInt8 := dkwX8_count_3 ++ dktX8_count_4
def dkwX8_count_2 : List UInt8 := [42, 180, 0, 34, 3, 46, 172, 42, 180, 0, 34, 5, 46, 172, 42, 180, 0, 34, 6, 46, 172, 42]
abbrev dktX8_count_2 : List UInt8 := dkwX8_count_2 ++ dktX8_count_3
def dkwX8_count_1 : List UInt8 := [170, 0, 0, 0, 0, 163, 0, 0, 0, 0, 0, 0, 0, 15, 0, 0, 0, 78, 0, 0, 0, 85, 0, 0, 0, 92, 0, 0, 0, 99, 0, 0, 0, 106, 0, 0, 0, 113, 0, 0, 0, 118, 0, 0, 0, 123, 0, 0, 0, 128, 0, 0, 0, 133, 0, 0, 0, 138, 0, 0, 0, 143, 0, 0, 0, 148, 0, 0, 0, 153, 0, 0, 0, 153, 0, 0, 0, 153]
abbrev dktX8_count_1 : List UInt8 := dkwX8_count_1 ++ dktX8_count_2
def dkwX8_count_0 : List UInt8 := [42, 3, 181, 0, 150, 27]
abbrev dktX8_count_0 : List UInt8 := dkwX8_count_0 ++ dktX8_count_1
theorem dksX8_count_0 : cX8_count.data.toList.drop 0 = dktX8_count_0 := by decide +kernel
theorem dksX8_count_1 : cX8_count.data.toList.drop 6 = dktX8_count_1 := dk_seg dksX8_count_0 6 rfl rfl
theorem dksX8_count_2 : cX8_count.data.toList.drop 84 = dktX8_count_2 := dk_seg dksX8_count_1 78 rfl rfl
theorem dksX8_count_3 : cX8_count.data.toList.drop 106 = dktX8_count_3 := dk_seg dksX8_count_2 22 rfl rfl
theorem dksX8_count_4 : cX8_count.data.toList.drop 130 = dktX8_count_4 := dk_seg dksX8_count_3 24 rfl rfl
theorem dksX8_count_5 : cX8_count.data.toList.drop 154 = dktX8_count_5 := dk_seg dksX8_count_4 24 rfl rfl
theorem dX8_count_0 : decode cX8_count 0 = .ok (.aload_n 0, 1) := dk_42 (dk_at dksX8_count_0 0 rfl rfl)
theorem dX8_count_1 : decode cX8_count 1 = .ok (.iconst 0, 1) := dk_3 (dk_at dksX8_count_0 1 rfl rfl)
theorem dX8_count_2 : decode cX8_count 2 = .ok (.putfield 150, 3) := dk_181 0 150 (dk_at dksX8_count_0 2 rfl rfl)
theorem dX8_count_5 : decode cX8_count 5 = .ok (.iload_n 1, 1) := dk_27 (dk_at dksX8_count_0 5 rfl rfl)
theorem dX8_count_6 : decode cX8_count 6 = .ok (.tableswitch 163 0 15 #[78, 85, 92, 99, 106, 113, 118, 123, 128, 133, 138, 143, 148, 153, 153, 153], 78) := by decide +kernel
theorem dX8_count_84 : decode cX8_count 84 = .ok (.aload_n 0, 1) := dk_42 (dk_at dksX8_count_2 0 rfl rfl)
theorem dX8_count_85 : decode cX8_count 85 = .ok (.getfield 34, 3) := dk_180 0 34 (dk_at dksX8_count_2 1 rfl rfl)
theorem dX8_count_88 : decode cX8_count 88 = .ok (.iconst 0, 1) := dk_3 (dk_at dksX8_count_2 4 rfl rfl)
theorem dX8_count_89 : decode cX8_count 89 = .ok (.iaload, 1) := dk_46 (dk_at dksX8_count_2 5 rfl rfl)
theorem dX8_count_90 : decode cX8_count 90 = .ok (.ireturn, 1) := dk_172 (dk_at dksX8_count_2 6 rfl rfl)
theorem dX8_count_91 : decode cX8_count 91 = .ok (.aload_n 0, 1) := dk_42 (dk_at dksX8_count_2 7 rfl rfl)
theorem dX8_count_92 : decode cX8_count 92 = .ok (.getfield 34, 3) := dk_180 0 34 (dk_at dksX8_count_2 8 rfl rfl)
theorem dX8_count_95 : decode cX8_count 95 = .ok (.iconst 2, 1) := dk_5 (dk_at dksX8_count_2 11 rfl rfl)
theorem dX8_count_96 : decode cX8_count 96 = .ok (.iaload, 1) := dk_46 (dk_at dksX8_count_2 12 rfl rfl)
theorem dX8_count_97 : decode cX8_count 97 = .ok (.ireturn, 1) := dk_172 (dk_at dksX8_count_2 13 rfl rfl)
theorem dX8_count_98 : decode cX8_count 98 = .ok (.aload_n 0, 1) := dk_42 (dk_at dksX8_count_2 14 rfl rfl)
theorem dX8_count_99 : decode cX8_count 99 = .ok (.getfield 34, 3) := dk_180 0 34 (dk_at dksX8_count_2 15 rfl rfl)
theorem dX8_count_102 : decode cX8_count 102 = .ok (.iconst 3, 1) := dk_6 (dk_at dksX8_count_2 18 rfl rfl)
theorem dX8_count_103 : decode cX8_count 103 = .ok (.iaload, 1) := dk_46 (dk_at dksX8_count_2 19 rfl rfl)
theorem dX8_count_104 : decode cX8_count 104 = .ok (.ireturn, 1) := dk_172 (dk_at dksX8_count_2 20 rfl rfl)
theorem dX8_count_105 : decode cX8_count 105 = .ok (.aload_n 0, 1) := dk_42 (dk_at dksX8_count_2 21 rfl rfl)
theorem dX8_count_106 : decode cX8_count 106 = .ok (.getfield 34, 3) := dk_180 0 34 (dk_at dksX8_count_3 0 rfl rfl)
theorem dX8_count_109 : decode cX8_count 109 = .ok (.iconst 4, 1) := dk_7 (dk_at dksX8_count_3 3 rfl rfl)
theorem dX8_count_110 : decode cX8_count 110 = .ok (.iaload, 1) := dk_46 (dk_at dksX8_count_3 4 rfl rfl)
theorem dX8_count_111 : decode cX8_count 111 = .ok (.ireturn, 1) := dk_172 (dk_at dksX8_count_3 5 rfl rfl)
theorem dX8_count_112 : decode cX8_count 112 = .ok (.aload_n 0, 1) := dk_42 (dk_at dksX8_count_3 6 rfl rfl)
theorem dX8_count_113 : decode cX8_count 113 = .ok (.getfield 34, 3) := dk_180 0 34 (dk_at dksX8_count_3 7 rfl rfl)
theorem dX8_count_116 : decode cX8_count 116 = .ok (.iconst 5, 1) := dk_8 (dk_at dksX8_count_3 10 rfl rfl)
theorem dX8_count_117 : decode cX8_count 117 = .ok (.iaload, 1) := dk_46 (dk_at dksX8_count_3 11 rfl rfl)
theorem dX8_count_118 : decode cX8_count 118 = .ok (.ireturn, 1) := dk_172 (dk_at dksX8_count_3 12 rfl rfl)
theorem dX8_count_119 : decode cX8_count 119 = .ok (.aload_n 0, 1) := dk_42 (dk_at dksX8_count_3 13 rfl rfl)
theorem dX8_count_120 : decode cX8_count 120 = .ok (.getfield 311, 3) := dk_180 1 55 (dk_at dksX8_count_3 14 rfl rfl)
theorem dX8_count_123 : decode cX8_count 123 = .ok (.ireturn, 1) := dk_172 (dk_at dksX8_count_3 17 rfl rfl)
theorem dX8_count_124 : decode cX8_count 124 = .ok (.aload_n 0, 1) := dk_42 (dk_at dksX8_count_3 18 rfl rfl)
theorem dX8_count_125 : decode cX8_count 125 = .ok (.getfield 314, 3) := dk_180 1 58 (dk_at dksX8_count_3 19 rfl rfl)
theorem dX8_count_128 : decode cX8_count 128 = .ok (.ireturn, 1) := dk_172 (dk_at dksX8_count_3 22 rfl rfl)
theorem dX8_count_129 : decode cX8_count 129 = .ok (.aload_n 0, 1) := dk_42 (dk_at dksX8_count_3 23 rfl rfl)
theorem dX8_count_130 : decode cX8_count 130 = .ok (.getfield 317, 3) := dk_180 1 61 (dk_at dksX8_count_4 0 rfl rfl)
theorem dX8_count_133 : decode cX8_count 133 = .ok (.ireturn, 1) := dk_172 (dk_at dksX8_count_4 3 rfl rfl)
theorem dX8_count_134 : decode cX8_count 134 = .ok (.aload_n 0, 1) := dk_42 (dk_at dksX8_count_4 4 rfl rfl)
theorem dX8_count_135 : decode cX8_count 135 = .ok (.getfield 320, 3) := dk_180 1 64 (dk_at dksX8_count_4 5 rfl rfl)
theorem dX8_count_138 : decode cX8_count 138 = .ok (.ireturn, 1) := dk_172 (dk_at dksX8_count_4 8 rfl rfl)
theorem dX8_count_139 : decode cX8_count 139 = .ok (.aload_n 0, 1) := dk_42 (dk_at dksX8_count_4 9 rfl rfl)
theorem dX8_count_140 : decode cX8_count 140 = .ok (.invokevirtual 410, 3) := dk_182 1 154 (dk_at dksX8_count_4 10 rfl rfl)
theorem dX8_count_143 : decode cX8_count 143 = .ok (.ireturn, 1) := dk_172 (dk_at dksX8_count_4 13 rfl rfl)
theorem dX8_count_144 : decode cX8_count 144 = .ok (.aload_n 0, 1) := dk_42 (dk_at dksX8_count_4 14 rfl rfl)
theorem dX8_count_145 : decode cX8_count 145 = .ok (.getfield 323, 3) := dk_180 1 67 (dk_at dksX8_count_4 15 rfl rfl)
theorem dX8_count_148 : decode cX8_count 148 = .ok (.ireturn, 1) := dk_172 (dk_at dksX8_count_4 18 rfl rfl)
theorem dX8_count_149 : decode cX8_count 149 = .ok (.aload_n 0, 1) := dk_42 (dk_at dksX8_count_4 19 rfl rfl)
theorem dX8_count_150 : decode cX8_count 150 = .ok (.getfield 326, 3) := dk_180 1 70 (dk_at dksX8_count_4 20 rfl rfl)
theorem dX8_count_153 : decode cX8_count 153 = .ok (.ireturn, 1) := dk_172 (dk_at dksX8_count_4 23 rfl rfl)
theorem dX8_count_154 : decode cX8_count 154 = .ok (.aload_n 0, 1) := dk_42 (dk_at dksX8_count_5 0 rfl rfl)
theorem dX8_count_155 : decode cX8_count 155 = .ok (.getfield 157, 3) := dk_180 0 157 (dk_at dksX8_count_5 1 rfl rfl)
theorem dX8_count_158 : decode cX8_count 158 = .ok (.ireturn, 1) := dk_172 (dk_at dksX8_count_5 4 rfl rfl)
theorem dX8_count_159 : decode cX8_count 159 = .ok (.aload_n 0, 1) := dk_42 (dk_at dksX8_count_5 5 rfl rfl)
theorem dX8_count_160 : decode cX8_count 160 = .ok (.getfield 60, 3) := dk_180 0 60 (dk_at dksX8_count_5 6 rfl rfl)
theorem dX8_count_163 : decode cX8_count 163 = .ok (.iload_n 1, 1) := dk_27 (dk_at dksX8_count_5 9 rfl rfl)
theorem dX8_count_164 : decode cX8_count 164 = .ok (.bipush 13, 2) := dk_16 13 (dk_at dksX8_count_5 10 rfl rfl)
theorem dX8_count_166 : decode cX8_count 166 = .ok (.isub, 1) := dk_100 (dk_at dksX8_count_5 12 rfl rfl)
theorem dX8_count_167 : decode cX8_count 167 = .ok (.iaload, 1) := dk_46 (dk_at dksX8_count_5 13 rfl rfl)
theorem dX8_count_168 : decode cX8_count 168 = .ok (.ireturn, 1) := dk_172 (dk_at dksX8_count_5 14 rfl rfl)
theorem dX8_count_169 : decode cX8_count 169 = .ok (.aload_n 0, 1) := dk_42 (dk_at dksX8_count_5 15 rfl rfl)
theorem dX8_count_170 : decode cX8_count 170 = .ok (.iconst 1, 1) := dk_4 (dk_at dksX8_count_5 16 rfl rfl)
theorem dX8_count_171 : decode cX8_count 171 = .ok (.invokevirtual 298, 3) := dk_182 1 42 (dk_at dksX8_count_5 17 rfl rfl)
theorem dX8_count_174 : decode cX8_count 174 = .ok (.ireturn, 1) := dk_172 (dk_at dksX8_count_5 20 rfl rfl)
abbrev cX8_tellNow : ByteArray := prog_20_method_63_code
def yX8_tellNow : MethodName := ⟨RX8, "tellNow", "()I"⟩
def dkwX8_tellNow_0 : List UInt8 := [42, 182, 1, 148, 42, 182, 1, 151, 172]
abbrev dktX8_tellNow_0 : List UInt8 := dkwX8_tellNow_0 ++ []
theorem dksX8_tellNow_0 : cX8_tellNow.data.toList.drop 0 = dktX8_tellNow_0 := by decide +kernel
theorem dX8_tellNow_0 : decode cX8_tellNow 0 = .ok (.aload_n 0, 1) := dk_42 (dk_at dksX8_tellNow_0 0 rfl rfl)
theorem dX8_tellNow_1 : decode cX8_tellNow 1 = .ok (.invokevirtual 404, 3) := dk_182 1 148 (dk_at dksX8_tellNow_0 1 rfl rfl)
theorem dX8_tellNow_4 : decode cX8_tellNow 4 = .ok (.aload_n 0, 1) := dk_42 (dk_at dksX8_tellNow_0 4 rfl rfl)
theorem dX8_tellNow_5 : decode cX8_tellNow 5 = .ok (.invokevirtual 407, 3) := dk_182 1 151 (dk_at dksX8_tellNow_0 5 rfl rfl)
theorem dX8_tellNow_8 : decode cX8_tellNow 8 = .ok (.ireturn, 1) := dk_172 (dk_at dksX8_tellNow_0 8 rfl rfl)
abbrev cX8_set : ByteArray := prog_20_method_46_code
def yX8_set : MethodName := ⟨RX8, "set", "()V"⟩
def dkwX8_set_2 : List UInt8 := [27, 120, 167, 0, 4, 3, 128, 181, 1, 87, 132, 1, 1, 167, 255, 217, 177]
abbrev dktX8_set_2 : List UInt8 := dkwX8_set_2 ++ []
def dkwX8_set_1 : List UInt8 := [180, 0, 34, 7, 46, 162, 0, 35, 42, 89, 180, 1, 87, 42, 180, 0, 41, 27, 46, 4, 160, 0, 9, 4]
abbrev dktX8_set_1 : List UInt8 := dkwX8_set_1 ++ dktX8_set_2
def dkwX8_set_0 : List UInt8 := [42, 2, 181, 0, 100, 42, 3, 181, 1, 84, 42, 2, 181, 0, 103, 42, 3, 181, 1, 87, 3, 60, 27, 42]
abbrev dktX8_set_0 : List UInt8 := dkwX8_set_0 ++ dktX8_set_1
theorem dksX8_set_0 : cX8_set.data.toList.drop 0 = dktX8_set_0 := by decide +kernel
theorem dksX8_set_1 : cX8_set.data.toList.drop 24 = dktX8_set_1 := dk_seg dksX8_set_0 24 rfl rfl
theorem dksX8_set_2 : cX8_set.data.toList.drop 48 = dktX8_set_2 := dk_seg dksX8_set_1 24 rfl rfl
theorem dX8_set_0 : decode cX8_set 0 = .ok (.aload_n 0, 1) := dk_42 (dk_at dksX8_set_0 0 rfl rfl)
theorem dX8_set_1 : decode cX8_set 1 = .ok (.iconst (-1), 1) := dk_2 (dk_at dksX8_set_0 1 rfl rfl)
theorem dX8_set_2 : decode cX8_set 2 = .ok (.putfield 100, 3) := dk_181 0 100 (dk_at dksX8_set_0 2 rfl rfl)
theorem dX8_set_5 : decode cX8_set 5 = .ok (.aload_n 0, 1) := dk_42 (dk_at dksX8_set_0 5 rfl rfl)
theorem dX8_set_6 : decode cX8_set 6 = .ok (.iconst 0, 1) := dk_3 (dk_at dksX8_set_0 6 rfl rfl)
theorem dX8_set_7 : decode cX8_set 7 = .ok (.putfield 340, 3) := dk_181 1 84 (dk_at dksX8_set_0 7 rfl rfl)
theorem dX8_set_10 : decode cX8_set 10 = .ok (.aload_n 0, 1) := dk_42 (dk_at dksX8_set_0 10 rfl rfl)
theorem dX8_set_11 : decode cX8_set 11 = .ok (.iconst (-1), 1) := dk_2 (dk_at dksX8_set_0 11 rfl rfl)
theorem dX8_set_12 : decode cX8_set 12 = .ok (.putfield 103, 3) := dk_181 0 103 (dk_at dksX8_set_0 12 rfl rfl)
theorem dX8_set_15 : decode cX8_set 15 = .ok (.aload_n 0, 1) := dk_42 (dk_at dksX8_set_0 15 rfl rfl)
theorem dX8_set_16 : decode cX8_set 16 = .ok (.iconst 0, 1) := dk_3 (dk_at dksX8_set_0 16 rfl rfl)
theorem dX8_set_17 : decode cX8_set 17 = .ok (.putfield 343, 3) := dk_181 1 87 (dk_at dksX8_set_0 17 rfl rfl)
theorem dX8_set_20 : decode cX8_set 20 = .ok (.iconst 0, 1) := dk_3 (dk_at dksX8_set_0 20 rfl rfl)
theorem dX8_set_21 : decode cX8_set 21 = .ok (.istore_n 1, 1) := dk_60 (dk_at dksX8_set_0 21 rfl rfl)
theorem dX8_set_22 : decode cX8_set 22 = .ok (.iload_n 1, 1) := dk_27 (dk_at dksX8_set_0 22 rfl rfl)
theorem dX8_set_23 : decode cX8_set 23 = .ok (.aload_n 0, 1) := dk_42 (dk_at dksX8_set_0 23 rfl rfl)
theorem dX8_set_24 : decode cX8_set 24 = .ok (.getfield 34, 3) := dk_180 0 34 (dk_at dksX8_set_1 0 rfl rfl)
theorem dX8_set_27 : decode cX8_set 27 = .ok (.iconst 4, 1) := dk_7 (dk_at dksX8_set_1 3 rfl rfl)
theorem dX8_set_28 : decode cX8_set 28 = .ok (.iaload, 1) := dk_46 (dk_at dksX8_set_1 4 rfl rfl)
theorem dX8_set_29 : decode cX8_set 29 = .ok (.if_icmp .ge 35, 3) := dk_162 0 35 (dk_at dksX8_set_1 5 rfl rfl)
theorem dX8_set_32 : decode cX8_set 32 = .ok (.aload_n 0, 1) := dk_42 (dk_at dksX8_set_1 8 rfl rfl)
theorem dX8_set_33 : decode cX8_set 33 = .ok (.dup, 1) := dk_89 (dk_at dksX8_set_1 9 rfl rfl)
theorem dX8_set_34 : decode cX8_set 34 = .ok (.getfield 343, 3) := dk_180 1 87 (dk_at dksX8_set_1 10 rfl rfl)
theorem dX8_set_37 : decode cX8_set 37 = .ok (.aload_n 0, 1) := dk_42 (dk_at dksX8_set_1 13 rfl rfl)
theorem dX8_set_38 : decode cX8_set 38 = .ok (.getfield 41, 3) := dk_180 0 41 (dk_at dksX8_set_1 14 rfl rfl)
theorem dX8_set_41 : decode cX8_set 41 = .ok (.iload_n 1, 1) := dk_27 (dk_at dksX8_set_1 17 rfl rfl)
theorem dX8_set_42 : decode cX8_set 42 = .ok (.iaload, 1) := dk_46 (dk_at dksX8_set_1 18 rfl rfl)
theorem dX8_set_43 : decode cX8_set 43 = .ok (.iconst 1, 1) := dk_4 (dk_at dksX8_set_1 19 rfl rfl)
theorem dX8_set_44 : decode cX8_set 44 = .ok (.if_icmp .ne 9, 3) := dk_160 0 9 (dk_at dksX8_set_1 20 rfl rfl)
theorem dX8_set_47 : decode cX8_set 47 = .ok (.iconst 1, 1) := dk_4 (dk_at dksX8_set_1 23 rfl rfl)
theorem dX8_set_48 : decode cX8_set 48 = .ok (.iload_n 1, 1) := dk_27 (dk_at dksX8_set_2 0 rfl rfl)
theorem dX8_set_49 : decode cX8_set 49 = .ok (.ishl, 1) := dk_120 (dk_at dksX8_set_2 1 rfl rfl)
theorem dX8_set_50 : decode cX8_set 50 = .ok (.goto 4, 3) := dk_167 0 4 (dk_at dksX8_set_2 2 rfl rfl)
theorem dX8_set_53 : decode cX8_set 53 = .ok (.iconst 0, 1) := dk_3 (dk_at dksX8_set_2 5 rfl rfl)
theorem dX8_set_54 : decode cX8_set 54 = .ok (.ior, 1) := dk_128 (dk_at dksX8_set_2 6 rfl rfl)
theorem dX8_set_55 : decode cX8_set 55 = .ok (.putfield 343, 3) := dk_181 1 87 (dk_at dksX8_set_2 7 rfl rfl)
theorem dX8_set_58 : decode cX8_set 58 = .ok (.iinc 1 1, 3) := dk_132 1 1 (dk_at dksX8_set_2 10 rfl rfl)
theorem dX8_set_61 : decode cX8_set 61 = .ok (.goto (-39), 3) := dk_167 255 217 (dk_at dksX8_set_2 13 rfl rfl)
theorem dX8_set_64 : decode cX8_set 64 = .ok (.return_, 1) := dk_177 (dk_at dksX8_set_2 16 rfl rfl)
abbrev cX8_tell : ByteArray := prog_20_method_61_code
def yX8_tell : MethodName := ⟨RX8, "tell", "()I"⟩
def dkwX8_tell_3 : List UInt8 := [132, 2, 1, 167, 255, 224, 132, 1, 1, 167, 255, 210, 42, 182, 1, 142, 172]
abbrev dktX8_tell_3 : List UInt8 := dkwX8_tell_3 ++ []
def dkwX8_tell_2 : List UInt8 := [162, 0, 28, 42, 28, 27, 182, 1, 90, 62, 29, 2, 159, 0, 10, 42, 28, 29, 27, 182, 1, 138]
abbrev dktX8_tell_2 : List UInt8 := dkwX8_tell_2 ++ dktX8_tell_3
def dkwX8_tell_1 : List UInt8 := [132, 1, 1, 167, 255, 240, 3, 60, 27, 16, 114, 163, 0, 46, 3, 61, 28, 42, 180, 0, 34, 7, 46]
abbrev dktX8_tell_1 : List UInt8 := dkwX8_tell_1 ++ dktX8_tell_2
def dkwX8_tell_0 : List UInt8 := [42, 182, 1, 132, 42, 182, 1, 135, 3, 60, 27, 16, 30, 162, 0, 16, 42, 180, 0, 106, 27, 2, 79]
abbrev dktX8_tell_0 : List UInt8 := dkwX8_tell_0 ++ dktX8_tell_1
theorem dksX8_tell_0 : cX8_tell.data.toList.drop 0 = dktX8_tell_0 := by decide +kernel
theorem dksX8_tell_1 : cX8_tell.data.toList.drop 23 = dktX8_tell_1 := dk_seg dksX8_tell_0 23 rfl rfl
theorem dksX8_tell_2 : cX8_tell.data.toList.drop 46 = dktX8_tell_2 := dk_seg dksX8_tell_1 23 rfl rfl
theorem dksX8_tell_3 : cX8_tell.data.toList.drop 68 = dktX8_tell_3 := dk_seg dksX8_tell_2 22 rfl rfl
theorem dX8_tell_0 : decode cX8_tell 0 = .ok (.aload_n 0, 1) := dk_42 (dk_at dksX8_tell_0 0 rfl rfl)
theorem dX8_tell_1 : decode cX8_tell 1 = .ok (.invokevirtual 388, 3) := dk_182 1 132 (dk_at dksX8_tell_0 1 rfl rfl)
theorem dX8_tell_4 : decode cX8_tell 4 = .ok (.aload_n 0, 1) := dk_42 (dk_at dksX8_tell_0 4 rfl rfl)
theorem dX8_tell_5 : decode cX8_tell 5 = .ok (.invokevirtual 391, 3) := dk_182 1 135 (dk_at dksX8_tell_0 5 rfl rfl)
theorem dX8_tell_8 : decode cX8_tell 8 = .ok (.iconst 0, 1) := dk_3 (dk_at dksX8_tell_0 8 rfl rfl)
theorem dX8_tell_9 : decode cX8_tell 9 = .ok (.istore_n 1, 1) := dk_60 (dk_at dksX8_tell_0 9 rfl rfl)
theorem dX8_tell_10 : decode cX8_tell 10 = .ok (.iload_n 1, 1) := dk_27 (dk_at dksX8_tell_0 10 rfl rfl)
theorem dX8_tell_11 : decode cX8_tell 11 = .ok (.bipush 30, 2) := dk_16 30 (dk_at dksX8_tell_0 11 rfl rfl)
theorem dX8_tell_13 : decode cX8_tell 13 = .ok (.if_icmp .ge 16, 3) := dk_162 0 16 (dk_at dksX8_tell_0 13 rfl rfl)
theorem dX8_tell_16 : decode cX8_tell 16 = .ok (.aload_n 0, 1) := dk_42 (dk_at dksX8_tell_0 16 rfl rfl)
theorem dX8_tell_17 : decode cX8_tell 17 = .ok (.getfield 106, 3) := dk_180 0 106 (dk_at dksX8_tell_0 17 rfl rfl)
theorem dX8_tell_20 : decode cX8_tell 20 = .ok (.iload_n 1, 1) := dk_27 (dk_at dksX8_tell_0 20 rfl rfl)
theorem dX8_tell_21 : decode cX8_tell 21 = .ok (.iconst (-1), 1) := dk_2 (dk_at dksX8_tell_0 21 rfl rfl)
theorem dX8_tell_22 : decode cX8_tell 22 = .ok (.iastore, 1) := dk_79 (dk_at dksX8_tell_0 22 rfl rfl)
theorem dX8_tell_23 : decode cX8_tell 23 = .ok (.iinc 1 1, 3) := dk_132 1 1 (dk_at dksX8_tell_1 0 rfl rfl)
theorem dX8_tell_26 : decode cX8_tell 26 = .ok (.goto (-16), 3) := dk_167 255 240 (dk_at dksX8_tell_1 3 rfl rfl)
theorem dX8_tell_29 : decode cX8_tell 29 = .ok (.iconst 0, 1) := dk_3 (dk_at dksX8_tell_1 6 rfl rfl)
theorem dX8_tell_30 : decode cX8_tell 30 = .ok (.istore_n 1, 1) := dk_60 (dk_at dksX8_tell_1 7 rfl rfl)
theorem dX8_tell_31 : decode cX8_tell 31 = .ok (.iload_n 1, 1) := dk_27 (dk_at dksX8_tell_1 8 rfl rfl)
theorem dX8_tell_32 : decode cX8_tell 32 = .ok (.bipush 114, 2) := dk_16 114 (dk_at dksX8_tell_1 9 rfl rfl)
theorem dX8_tell_34 : decode cX8_tell 34 = .ok (.if_icmp .gt 46, 3) := dk_163 0 46 (dk_at dksX8_tell_1 11 rfl rfl)
theorem dX8_tell_37 : decode cX8_tell 37 = .ok (.iconst 0, 1) := dk_3 (dk_at dksX8_tell_1 14 rfl rfl)
theorem dX8_tell_38 : decode cX8_tell 38 = .ok (.istore_n 2, 1) := dk_61 (dk_at dksX8_tell_1 15 rfl rfl)
theorem dX8_tell_39 : decode cX8_tell 39 = .ok (.iload_n 2, 1) := dk_28 (dk_at dksX8_tell_1 16 rfl rfl)
theorem dX8_tell_40 : decode cX8_tell 40 = .ok (.aload_n 0, 1) := dk_42 (dk_at dksX8_tell_1 17 rfl rfl)
theorem dX8_tell_41 : decode cX8_tell 41 = .ok (.getfield 34, 3) := dk_180 0 34 (dk_at dksX8_tell_1 18 rfl rfl)
theorem dX8_tell_44 : decode cX8_tell 44 = .ok (.iconst 4, 1) := dk_7 (dk_at dksX8_tell_1 21 rfl rfl)
theorem dX8_tell_45 : decode cX8_tell 45 = .ok (.iaload, 1) := dk_46 (dk_at dksX8_tell_1 22 rfl rfl)
theorem dX8_tell_46 : decode cX8_tell 46 = .ok (.if_icmp .ge 28, 3) := dk_162 0 28 (dk_at dksX8_tell_2 0 rfl rfl)
theorem dX8_tell_49 : decode cX8_tell 49 = .ok (.aload_n 0, 1) := dk_42 (dk_at dksX8_tell_2 3 rfl rfl)
theorem dX8_tell_50 : decode cX8_tell 50 = .ok (.iload_n 2, 1) := dk_28 (dk_at dksX8_tell_2 4 rfl rfl)
theorem dX8_tell_51 : decode cX8_tell 51 = .ok (.iload_n 1, 1) := dk_27 (dk_at dksX8_tell_2 5 rfl rfl)
theorem dX8_tell_52 : decode cX8_tell 52 = .ok (.invokevirtual 346, 3) := dk_182 1 90 (dk_at dksX8_tell_2 6 rfl rfl)
theorem dX8_tell_55 : decode cX8_tell 55 = .ok (.istore_n 3, 1) := dk_62 (dk_at dksX8_tell_2 9 rfl rfl)
theorem dX8_tell_56 : decode cX8_tell 56 = .ok (.iload_n 3, 1) := dk_29 (dk_at dksX8_tell_2 10 rfl rfl)
theorem dX8_tell_57 : decode cX8_tell 57 = .ok (.iconst (-1), 1) := dk_2 (dk_at dksX8_tell_2 11 rfl rfl)
theorem dX8_tell_58 : decode cX8_tell 58 = .ok (.if_icmp .eq 10, 3) := dk_159 0 10 (dk_at dksX8_tell_2 12 rfl rfl)
theorem dX8_tell_61 : decode cX8_tell 61 = .ok (.aload_n 0, 1) := dk_42 (dk_at dksX8_tell_2 15 rfl rfl)
theorem dX8_tell_62 : decode cX8_tell 62 = .ok (.iload_n 2, 1) := dk_28 (dk_at dksX8_tell_2 16 rfl rfl)
theorem dX8_tell_63 : decode cX8_tell 63 = .ok (.iload_n 3, 1) := dk_29 (dk_at dksX8_tell_2 17 rfl rfl)
theorem dX8_tell_64 : decode cX8_tell 64 = .ok (.iload_n 1, 1) := dk_27 (dk_at dksX8_tell_2 18 rfl rfl)
theorem dX8_tell_65 : decode cX8_tell 65 = .ok (.invokevirtual 394, 3) := dk_182 1 138 (dk_at dksX8_tell_2 19 rfl rfl)
theorem dX8_tell_68 : decode cX8_tell 68 = .ok (.iinc 2 1, 3) := dk_132 2 1 (dk_at dksX8_tell_3 0 rfl rfl)
theorem dX8_tell_71 : decode cX8_tell 71 = .ok (.goto (-32), 3) := dk_167 255 224 (dk_at dksX8_tell_3 3 rfl rfl)
theorem dX8_tell_74 : decode cX8_tell 74 = .ok (.iinc 1 1, 3) := dk_132 1 1 (dk_at dksX8_tell_3 6 rfl rfl)
theorem dX8_tell_77 : decode cX8_tell 77 = .ok (.goto (-46), 3) := dk_167 255 210 (dk_at dksX8_tell_3 9 rfl rfl)
theorem dX8_tell_80 : decode cX8_tell 80 = .ok (.aload_n 0, 1) := dk_42 (dk_at dksX8_tell_3 12 rfl rfl)
theorem dX8_tell_81 : decode cX8_tell 81 = .ok (.invokevirtual 398, 3) := dk_182 1 142 (dk_at dksX8_tell_3 13 rfl rfl)
theorem dX8_tell_84 : decode cX8_tell 84 = .ok (.ireturn, 1) := dk_172 (dk_at dksX8_tell_3 16 rfl rfl)
abbrev cX8_tellStops : ByteArray := prog_20_method_47_code
def yX8_tellStops : MethodName := ⟨RX8, "tellStops", "()V"⟩
def dkwX8_tellStops_5 : List UInt8 := [79, 132, 3, 1, 167, 255, 154, 132, 1, 1, 167, 255, 129, 177]
abbrev dktX8_tellStops_5 : List UInt8 := dkwX8_tellStops_5 ++ []
def dkwX8_tellStops_4 : List UInt8 := [42, 180, 0, 91, 16, 7, 27, 104, 29, 96, 21, 4, 79, 42, 180, 0, 94, 16, 7, 27, 104, 29, 96, 28]
abbrev dktX8_tellStops_4 : List UInt8 := dkwX8_tellStops_4 ++ dktX8_tellStops_5
def dkwX8_tellStops_3 : List UInt8 := [180, 0, 38, 42, 180, 0, 91, 16, 7, 27, 104, 29, 96, 4, 100, 46, 21, 4, 184, 1, 20, 46, 96, 61]
abbrev dktX8_tellStops_3 : List UInt8 := dkwX8_tellStops_3 ++ dktX8_tellStops_4
def dkwX8_tellStops_2 : List UInt8 := [42, 180, 0, 49, 27, 46, 4, 100, 29, 100, 167, 0, 4, 29, 96, 46, 54, 4, 29, 158, 0, 29, 28, 42]
abbrev dktX8_tellStops_2 : List UInt8 := dkwX8_tellStops_2 ++ dktX8_tellStops_3
def dkwX8_tellStops_1 : List UInt8 := [180, 0, 49, 27, 46, 162, 0, 98, 42, 180, 0, 52, 16, 7, 27, 104, 27, 42, 180, 0, 100, 160, 0, 16]
abbrev dktX8_tellStops_1 : List UInt8 := dkwX8_tellStops_1 ++ dktX8_tellStops_2
def dkwX8_tellStops_0 : List UInt8 := [3, 60, 27, 42, 180, 0, 34, 7, 46, 162, 0, 123, 42, 180, 0, 44, 27, 46, 61, 3, 62, 29, 42]
abbrev dktX8_tellStops_0 : List UInt8 := dkwX8_tellStops_0 ++ dktX8_tellStops_1
theorem dksX8_tellStops_0 : cX8_tellStops.data.toList.drop 0 = dktX8_tellStops_0 := by decide +kernel
theorem dksX8_tellStops_1 : cX8_tellStops.data.toList.drop 23 = dktX8_tellStops_1 := dk_seg dksX8_tellStops_0 23 rfl rfl
theorem dksX8_tellStops_2 : cX8_tellStops.data.toList.drop 47 = dktX8_tellStops_2 := dk_seg dksX8_tellStops_1 24 rfl rfl
theorem dksX8_tellStops_3 : cX8_tellStops.data.toList.drop 71 = dktX8_tellStops_3 := dk_seg dksX8_tellStops_2 24 rfl rfl
theorem dksX8_tellStops_4 : cX8_tellStops.data.toList.drop 95 = dktX8_tellStops_4 := dk_seg dksX8_tellStops_3 24 rfl rfl
theorem dksX8_tellStops_5 : cX8_tellStops.data.toList.drop 119 = dktX8_tellStops_5 := dk_seg dksX8_tellStops_4 24 rfl rfl
theorem dX8_tellStops_0 : decode cX8_tellStops 0 = .ok (.iconst 0, 1) := dk_3 (dk_at dksX8_tellStops_0 0 rfl rfl)
theorem dX8_tellStops_1 : decode cX8_tellStops 1 = .ok (.istore_n 1, 1) := dk_60 (dk_at dksX8_tellStops_0 1 rfl rfl)
theorem dX8_tellStops_2 : decode cX8_tellStops 2 = .ok (.iload_n 1, 1) := dk_27 (dk_at dksX8_tellStops_0 2 rfl rfl)
theorem dX8_tellStops_3 : decode cX8_tellStops 3 = .ok (.aload_n 0, 1) := dk_42 (dk_at dksX8_tellStops_0 3 rfl rfl)
theorem dX8_tellStops_4 : decode cX8_tellStops 4 = .ok (.getfield 34, 3) := dk_180 0 34 (dk_at dksX8_tellStops_0 4 rfl rfl)
theorem dX8_tellStops_7 : decode cX8_tellStops 7 = .ok (.iconst 4, 1) := dk_7 (dk_at dksX8_tellStops_0 7 rfl rfl)
theorem dX8_tellStops_8 : decode cX8_tellStops 8 = .ok (.iaload, 1) := dk_46 (dk_at dksX8_tellStops_0 8 rfl rfl)
theorem dX8_tellStops_9 : decode cX8_tellStops 9 = .ok (.if_icmp .ge 123, 3) := dk_162 0 123 (dk_at dksX8_tellStops_0 9 rfl rfl)
theorem dX8_tellStops_12 : decode cX8_tellStops 12 = .ok (.aload_n 0, 1) := dk_42 (dk_at dksX8_tellStops_0 12 rfl rfl)
theorem dX8_tellStops_13 : decode cX8_tellStops 13 = .ok (.getfield 44, 3) := dk_180 0 44 (dk_at dksX8_tellStops_0 13 rfl rfl)
theorem dX8_tellStops_16 : decode cX8_tellStops 16 = .ok (.iload_n 1, 1) := dk_27 (dk_at dksX8_tellStops_0 16 rfl rfl)
theorem dX8_tellStops_17 : decode cX8_tellStops 17 = .ok (.iaload, 1) := dk_46 (dk_at dksX8_tellStops_0 17 rfl rfl)
theorem dX8_tellStops_18 : decode cX8_tellStops 18 = .ok (.istore_n 2, 1) := dk_61 (dk_at dksX8_tellStops_0 18 rfl rfl)
theorem dX8_tellStops_19 : decode cX8_tellStops 19 = .ok (.iconst 0, 1) := dk_3 (dk_at dksX8_tellStops_0 19 rfl rfl)
theorem dX8_tellStops_20 : decode cX8_tellStops 20 = .ok (.istore_n 3, 1) := dk_62 (dk_at dksX8_tellStops_0 20 rfl rfl)
theorem dX8_tellStops_21 : decode cX8_tellStops 21 = .ok (.iload_n 3, 1) := dk_29 (dk_at dksX8_tellStops_0 21 rfl rfl)
theorem dX8_tellStops_22 : decode cX8_tellStops 22 = .ok (.aload_n 0, 1) := dk_42 (dk_at dksX8_tellStops_0 22 rfl rfl)
theorem dX8_tellStops_23 : decode cX8_tellStops 23 = .ok (.getfield 49, 3) := dk_180 0 49 (dk_at dksX8_tellStops_1 0 rfl rfl)
theorem dX8_tellStops_26 : decode cX8_tellStops 26 = .ok (.iload_n 1, 1) := dk_27 (dk_at dksX8_tellStops_1 3 rfl rfl)
theorem dX8_tellStops_27 : decode cX8_tellStops 27 = .ok (.iaload, 1) := dk_46 (dk_at dksX8_tellStops_1 4 rfl rfl)
theorem dX8_tellStops_28 : decode cX8_tellStops 28 = .ok (.if_icmp .ge 98, 3) := dk_162 0 98 (dk_at dksX8_tellStops_1 5 rfl rfl)
theorem dX8_tellStops_31 : decode cX8_tellStops 31 = .ok (.aload_n 0, 1) := dk_42 (dk_at dksX8_tellStops_1 8 rfl rfl)
theorem dX8_tellStops_32 : decode cX8_tellStops 32 = .ok (.getfield 52, 3) := dk_180 0 52 (dk_at dksX8_tellStops_1 9 rfl rfl)
theorem dX8_tellStops_35 : decode cX8_tellStops 35 = .ok (.bipush 7, 2) := dk_16 7 (dk_at dksX8_tellStops_1 12 rfl rfl)
theorem dX8_tellStops_37 : decode cX8_tellStops 37 = .ok (.iload_n 1, 1) := dk_27 (dk_at dksX8_tellStops_1 14 rfl rfl)
theorem dX8_tellStops_38 : decode cX8_tellStops 38 = .ok (.imul, 1) := dk_104 (dk_at dksX8_tellStops_1 15 rfl rfl)
theorem dX8_tellStops_39 : decode cX8_tellStops 39 = .ok (.iload_n 1, 1) := dk_27 (dk_at dksX8_tellStops_1 16 rfl rfl)
theorem dX8_tellStops_40 : decode cX8_tellStops 40 = .ok (.aload_n 0, 1) := dk_42 (dk_at dksX8_tellStops_1 17 rfl rfl)
theorem dX8_tellStops_41 : decode cX8_tellStops 41 = .ok (.getfield 100, 3) := dk_180 0 100 (dk_at dksX8_tellStops_1 18 rfl rfl)
theorem dX8_tellStops_44 : decode cX8_tellStops 44 = .ok (.if_icmp .ne 16, 3) := dk_160 0 16 (dk_at dksX8_tellStops_1 21 rfl rfl)
theorem dX8_tellStops_47 : decode cX8_tellStops 47 = .ok (.aload_n 0, 1) := dk_42 (dk_at dksX8_tellStops_2 0 rfl rfl)
theorem dX8_tellStops_48 : decode cX8_tellStops 48 = .ok (.getfield 49, 3) := dk_180 0 49 (dk_at dksX8_tellStops_2 1 rfl rfl)
theorem dX8_tellStops_51 : decode cX8_tellStops 51 = .ok (.iload_n 1, 1) := dk_27 (dk_at dksX8_tellStops_2 4 rfl rfl)
theorem dX8_tellStops_52 : decode cX8_tellStops 52 = .ok (.iaload, 1) := dk_46 (dk_at dksX8_tellStops_2 5 rfl rfl)
theorem dX8_tellStops_53 : decode cX8_tellStops 53 = .ok (.iconst 1, 1) := dk_4 (dk_at dksX8_tellStops_2 6 rfl rfl)
theorem dX8_tellStops_54 : decode cX8_tellStops 54 = .ok (.isub, 1) := dk_100 (dk_at dksX8_tellStops_2 7 rfl rfl)
theorem dX8_tellStops_55 : decode cX8_tellStops 55 = .ok (.iload_n 3, 1) := dk_29 (dk_at dksX8_tellStops_2 8 rfl rfl)
theorem dX8_tellStops_56 : decode cX8_tellStops 56 = .ok (.isub, 1) := dk_100 (dk_at dksX8_tellStops_2 9 rfl rfl)
theorem dX8_tellStops_57 : decode cX8_tellStops 57 = .ok (.goto 4, 3) := dk_167 0 4 (dk_at dksX8_tellStops_2 10 rfl rfl)
theorem dX8_tellStops_60 : decode cX8_tellStops 60 = .ok (.iload_n 3, 1) := dk_29 (dk_at dksX8_tellStops_2 13 rfl rfl)
theorem dX8_tellStops_61 : decode cX8_tellStops 61 = .ok (.iadd, 1) := dk_96 (dk_at dksX8_tellStops_2 14 rfl rfl)
theorem dX8_tellStops_62 : decode cX8_tellStops 62 = .ok (.iaload, 1) := dk_46 (dk_at dksX8_tellStops_2 15 rfl rfl)
theorem dX8_tellStops_63 : decode cX8_tellStops 63 = .ok (.istore 4, 2) := dk_54 4 (dk_at dksX8_tellStops_2 16 rfl rfl)
theorem dX8_tellStops_65 : decode cX8_tellStops 65 = .ok (.iload_n 3, 1) := dk_29 (dk_at dksX8_tellStops_2 18 rfl rfl)
theorem dX8_tellStops_66 : decode cX8_tellStops 66 = .ok (.ifCond .le 29, 3) := dk_158 0 29 (dk_at dksX8_tellStops_2 19 rfl rfl)
theorem dX8_tellStops_69 : decode cX8_tellStops 69 = .ok (.iload_n 2, 1) := dk_28 (dk_at dksX8_tellStops_2 22 rfl rfl)
theorem dX8_tellStops_70 : decode cX8_tellStops 70 = .ok (.aload_n 0, 1) := dk_42 (dk_at dksX8_tellStops_2 23 rfl rfl)
theorem dX8_tellStops_71 : decode cX8_tellStops 71 = .ok (.getfield 38, 3) := dk_180 0 38 (dk_at dksX8_tellStops_3 0 rfl rfl)
theorem dX8_tellStops_74 : decode cX8_tellStops 74 = .ok (.aload_n 0, 1) := dk_42 (dk_at dksX8_tellStops_3 3 rfl rfl)
theorem dX8_tellStops_75 : decode cX8_tellStops 75 = .ok (.getfield 91, 3) := dk_180 0 91 (dk_at dksX8_tellStops_3 4 rfl rfl)
theorem dX8_tellStops_78 : decode cX8_tellStops 78 = .ok (.bipush 7, 2) := dk_16 7 (dk_at dksX8_tellStops_3 7 rfl rfl)
theorem dX8_tellStops_80 : decode cX8_tellStops 80 = .ok (.iload_n 1, 1) := dk_27 (dk_at dksX8_tellStops_3 9 rfl rfl)
theorem dX8_tellStops_81 : decode cX8_tellStops 81 = .ok (.imul, 1) := dk_104 (dk_at dksX8_tellStops_3 10 rfl rfl)
theorem dX8_tellStops_82 : decode cX8_tellStops 82 = .ok (.iload_n 3, 1) := dk_29 (dk_at dksX8_tellStops_3 11 rfl rfl)
theorem dX8_tellStops_83 : decode cX8_tellStops 83 = .ok (.iadd, 1) := dk_96 (dk_at dksX8_tellStops_3 12 rfl rfl)
theorem dX8_tellStops_84 : decode cX8_tellStops 84 = .ok (.iconst 1, 1) := dk_4 (dk_at dksX8_tellStops_3 13 rfl rfl)
theorem dX8_tellStops_85 : decode cX8_tellStops 85 = .ok (.isub, 1) := dk_100 (dk_at dksX8_tellStops_3 14 rfl rfl)
theorem dX8_tellStops_86 : decode cX8_tellStops 86 = .ok (.iaload, 1) := dk_46 (dk_at dksX8_tellStops_3 15 rfl rfl)
theorem dX8_tellStops_87 : decode cX8_tellStops 87 = .ok (.iload 4, 2) := dk_21 4 (dk_at dksX8_tellStops_3 16 rfl rfl)
theorem dX8_tellStops_89 : decode cX8_tellStops 89 = .ok (.invokestatic 276, 3) := dk_184 1 20 (dk_at dksX8_tellStops_3 18 rfl rfl)
theorem dX8_tellStops_92 : decode cX8_tellStops 92 = .ok (.iaload, 1) := dk_46 (dk_at dksX8_tellStops_3 21 rfl rfl)
theorem dX8_tellStops_93 : decode cX8_tellStops 93 = .ok (.iadd, 1) := dk_96 (dk_at dksX8_tellStops_3 22 rfl rfl)
theorem dX8_tellStops_94 : decode cX8_tellStops 94 = .ok (.istore_n 2, 1) := dk_61 (dk_at dksX8_tellStops_3 23 rfl rfl)
theorem dX8_tellStops_95 : decode cX8_tellStops 95 = .ok (.aload_n 0, 1) := dk_42 (dk_at dksX8_tellStops_4 0 rfl rfl)
theorem dX8_tellStops_96 : decode cX8_tellStops 96 = .ok (.getfield 91, 3) := dk_180 0 91 (dk_at dksX8_tellStops_4 1 rfl rfl)
theorem dX8_tellStops_99 : decode cX8_tellStops 99 = .ok (.bipush 7, 2) := dk_16 7 (dk_at dksX8_tellStops_4 4 rfl rfl)
theorem dX8_tellStops_101 : decode cX8_tellStops 101 = .ok (.iload_n 1, 1) := dk_27 (dk_at dksX8_tellStops_4 6 rfl rfl)
theorem dX8_tellStops_102 : decode cX8_tellStops 102 = .ok (.imul, 1) := dk_104 (dk_at dksX8_tellStops_4 7 rfl rfl)
theorem dX8_tellStops_103 : decode cX8_tellStops 103 = .ok (.iload_n 3, 1) := dk_29 (dk_at dksX8_tellStops_4 8 rfl rfl)
theorem dX8_tellStops_104 : decode cX8_tellStops 104 = .ok (.iadd, 1) := dk_96 (dk_at dksX8_tellStops_4 9 rfl rfl)
theorem dX8_tellStops_105 : decode cX8_tellStops 105 = .ok (.iload 4, 2) := dk_21 4 (dk_at dksX8_tellStops_4 10 rfl rfl)
theorem dX8_tellStops_107 : decode cX8_tellStops 107 = .ok (.iastore, 1) := dk_79 (dk_at dksX8_tellStops_4 12 rfl rfl)
theorem dX8_tellStops_108 : decode cX8_tellStops 108 = .ok (.aload_n 0, 1) := dk_42 (dk_at dksX8_tellStops_4 13 rfl rfl)
theorem dX8_tellStops_109 : decode cX8_tellStops 109 = .ok (.getfield 94, 3) := dk_180 0 94 (dk_at dksX8_tellStops_4 14 rfl rfl)
theorem dX8_tellStops_112 : decode cX8_tellStops 112 = .ok (.bipush 7, 2) := dk_16 7 (dk_at dksX8_tellStops_4 17 rfl rfl)
theorem dX8_tellStops_114 : decode cX8_tellStops 114 = .ok (.iload_n 1, 1) := dk_27 (dk_at dksX8_tellStops_4 19 rfl rfl)
theorem dX8_tellStops_115 : decode cX8_tellStops 115 = .ok (.imul, 1) := dk_104 (dk_at dksX8_tellStops_4 20 rfl rfl)
theorem dX8_tellStops_116 : decode cX8_tellStops 116 = .ok (.iload_n 3, 1) := dk_29 (dk_at dksX8_tellStops_4 21 rfl rfl)
theorem dX8_tellStops_117 : decode cX8_tellStops 117 = .ok (.iadd, 1) := dk_96 (dk_at dksX8_tellStops_4 22 rfl rfl)
theorem dX8_tellStops_118 : decode cX8_tellStops 118 = .ok (.iload_n 2, 1) := dk_28 (dk_at dksX8_tellStops_4 23 rfl rfl)
theorem dX8_tellStops_119 : decode cX8_tellStops 119 = .ok (.iastore, 1) := dk_79 (dk_at dksX8_tellStops_5 0 rfl rfl)
theorem dX8_tellStops_120 : decode cX8_tellStops 120 = .ok (.iinc 3 1, 3) := dk_132 3 1 (dk_at dksX8_tellStops_5 1 rfl rfl)
theorem dX8_tellStops_123 : decode cX8_tellStops 123 = .ok (.goto (-102), 3) := dk_167 255 154 (dk_at dksX8_tellStops_5 4 rfl rfl)
theorem dX8_tellStops_126 : decode cX8_tellStops 126 = .ok (.iinc 1 1, 3) := dk_132 1 1 (dk_at dksX8_tellStops_5 7 rfl rfl)
theorem dX8_tellStops_129 : decode cX8_tellStops 129 = .ok (.goto (-127), 3) := dk_167 255 129 (dk_at dksX8_tellStops_5 10 rfl rfl)
theorem dX8_tellStops_132 : decode cX8_tellStops 132 = .ok (.return_, 1) := dk_177 (dk_at dksX8_tellStops_5 13 rfl rfl)
abbrev cX8_tellMeetings : ByteArray := prog_20_method_50_code
def yX8_tellMeetings : MethodName := ⟨RX8, "tellMeetings", "()V"⟩
def dkwX8_tellMeetings_5 : List UInt8 := [132, 2, 1, 167, 255, 150, 132, 1, 1, 167, 255, 132, 177]
abbrev dktX8_tellMeetings_5 : List UInt8 := dkwX8_tellMeetings_5 ++ []
def dkwX8_tellMeetings_4 : List UInt8 := [182, 1, 93, 153, 0, 15, 42, 180, 0, 97, 8, 27, 104, 28, 96, 21, 4, 79, 132, 3, 255, 167, 255, 187]
abbrev dktX8_tellMeetings_4 : List UInt8 := dkwX8_tellMeetings_4 ++ dktX8_tellMeetings_5
def dkwX8_tellMeetings_3 : List UInt8 := [54, 5, 21, 5, 2, 159, 0, 37, 42, 42, 180, 0, 91, 16, 7, 27, 104, 29, 96, 46, 21, 5, 21, 4]
abbrev dktX8_tellMeetings_3 : List UInt8 := dkwX8_tellMeetings_3 ++ dktX8_tellMeetings_4
def dkwX8_tellMeetings_2 : List UInt8 := [155, 0, 71, 42, 180, 0, 94, 16, 7, 27, 104, 29, 96, 46, 54, 4, 42, 28, 21, 4, 182, 1, 90]
abbrev dktX8_tellMeetings_2 : List UInt8 := dkwX8_tellMeetings_2 ++ dktX8_tellMeetings_3
def dkwX8_tellMeetings_1 : List UInt8 := [42, 180, 0, 97, 8, 27, 104, 28, 96, 18, 186, 79, 42, 180, 0, 49, 27, 46, 4, 100, 62, 29]
abbrev dktX8_tellMeetings_1 : List UInt8 := dkwX8_tellMeetings_1 ++ dktX8_tellMeetings_2
def dkwX8_tellMeetings_0 : List UInt8 := [3, 60, 27, 42, 180, 0, 34, 7, 46, 162, 0, 120, 3, 61, 28, 42, 180, 0, 34, 7, 46, 162, 0, 102]
abbrev dktX8_tellMeetings_0 : List UInt8 := dkwX8_tellMeetings_0 ++ dktX8_tellMeetings_1
theorem dksX8_tellMeetings_0 : cX8_tellMeetings.data.toList.drop 0 = dktX8_tellMeetings_0 := by decide +kernel
theorem dksX8_tellMeetings_1 : cX8_tellMeetings.data.toList.drop 24 = dktX8_tellMeetings_1 := dk_seg dksX8_tellMeetings_0 24 rfl rfl
theorem dksX8_tellMeetings_2 : cX8_tellMeetings.data.toList.drop 46 = dktX8_tellMeetings_2 := dk_seg dksX8_tellMeetings_1 22 rfl rfl
theorem dksX8_tellMeetings_3 : cX8_tellMeetings.data.toList.drop 69 = dktX8_tellMeetings_3 := dk_seg dksX8_tellMeetings_2 23 rfl rfl
theorem dksX8_tellMeetings_4 : cX8_tellMeetings.data.toList.drop 93 = dktX8_tellMeetings_4 := dk_seg dksX8_tellMeetings_3 24 rfl rfl
theorem dksX8_tellMeetings_5 : cX8_tellMeetings.data.toList.drop 117 = dktX8_tellMeetings_5 := dk_seg dksX8_tellMeetings_4 24 rfl rfl
theorem dX8_tellMeetings_0 : decode cX8_tellMeetings 0 = .ok (.iconst 0, 1) := dk_3 (dk_at dksX8_tellMeetings_0 0 rfl rfl)
theorem dX8_tellMeetings_1 : decode cX8_tellMeetings 1 = .ok (.istore_n 1, 1) := dk_60 (dk_at dksX8_tellMeetings_0 1 rfl rfl)
theorem dX8_tellMeetings_2 : decode cX8_tellMeetings 2 = .ok (.iload_n 1, 1) := dk_27 (dk_at dksX8_tellMeetings_0 2 rfl rfl)
theorem dX8_tellMeetings_3 : decode cX8_tellMeetings 3 = .ok (.aload_n 0, 1) := dk_42 (dk_at dksX8_tellMeetings_0 3 rfl rfl)
theorem dX8_tellMeetings_4 : decode cX8_tellMeetings 4 = .ok (.getfield 34, 3) := dk_180 0 34 (dk_at dksX8_tellMeetings_0 4 rfl rfl)
theorem dX8_tellMeetings_7 : decode cX8_tellMeetings 7 = .ok (.iconst 4, 1) := dk_7 (dk_at dksX8_tellMeetings_0 7 rfl rfl)
theorem dX8_tellMeetings_8 : decode cX8_tellMeetings 8 = .ok (.iaload, 1) := dk_46 (dk_at dksX8_tellMeetings_0 8 rfl rfl)
theorem dX8_tellMeetings_9 : decode cX8_tellMeetings 9 = .ok (.if_icmp .ge 120, 3) := dk_162 0 120 (dk_at dksX8_tellMeetings_0 9 rfl rfl)
theorem dX8_tellMeetings_12 : decode cX8_tellMeetings 12 = .ok (.iconst 0, 1) := dk_3 (dk_at dksX8_tellMeetings_0 12 rfl rfl)
theorem dX8_tellMeetings_13 : decode cX8_tellMeetings 13 = .ok (.istore_n 2, 1) := dk_61 (dk_at dksX8_tellMeetings_0 13 rfl rfl)
theorem dX8_tellMeetings_14 : decode cX8_tellMeetings 14 = .ok (.iload_n 2, 1) := dk_28 (dk_at dksX8_tellMeetings_0 14 rfl rfl)
theorem dX8_tellMeetings_15 : decode cX8_tellMeetings 15 = .ok (.aload_n 0, 1) := dk_42 (dk_at dksX8_tellMeetings_0 15 rfl rfl)
theorem dX8_tellMeetings_16 : decode cX8_tellMeetings 16 = .ok (.getfield 34, 3) := dk_180 0 34 (dk_at dksX8_tellMeetings_0 16 rfl rfl)
theorem dX8_tellMeetings_19 : decode cX8_tellMeetings 19 = .ok (.iconst 4, 1) := dk_7 (dk_at dksX8_tellMeetings_0 19 rfl rfl)
theorem dX8_tellMeetings_20 : decode cX8_tellMeetings 20 = .ok (.iaload, 1) := dk_46 (dk_at dksX8_tellMeetings_0 20 rfl rfl)
theorem dX8_tellMeetings_21 : decode cX8_tellMeetings 21 = .ok (.if_icmp .ge 102, 3) := dk_162 0 102 (dk_at dksX8_tellMeetings_0 21 rfl rfl)
theorem dX8_tellMeetings_24 : decode cX8_tellMeetings 24 = .ok (.aload_n 0, 1) := dk_42 (dk_at dksX8_tellMeetings_1 0 rfl rfl)
theorem dX8_tellMeetings_25 : decode cX8_tellMeetings 25 = .ok (.getfield 97, 3) := dk_180 0 97 (dk_at dksX8_tellMeetings_1 1 rfl rfl)
theorem dX8_tellMeetings_28 : decode cX8_tellMeetings 28 = .ok (.iconst 5, 1) := dk_8 (dk_at dksX8_tellMeetings_1 4 rfl rfl)
theorem dX8_tellMeetings_29 : decode cX8_tellMeetings 29 = .ok (.iload_n 1, 1) := dk_27 (dk_at dksX8_tellMeetings_1 5 rfl rfl)
theorem dX8_tellMeetings_30 : decode cX8_tellMeetings 30 = .ok (.imul, 1) := dk_104 (dk_at dksX8_tellMeetings_1 6 rfl rfl)
theorem dX8_tellMeetings_31 : decode cX8_tellMeetings 31 = .ok (.iload_n 2, 1) := dk_28 (dk_at dksX8_tellMeetings_1 7 rfl rfl)
theorem dX8_tellMeetings_32 : decode cX8_tellMeetings 32 = .ok (.iadd, 1) := dk_96 (dk_at dksX8_tellMeetings_1 8 rfl rfl)
theorem dX8_tellMeetings_33 : decode cX8_tellMeetings 33 = .ok (.ldc 186, 2) := dk_18 186 (dk_at dksX8_tellMeetings_1 9 rfl rfl)
theorem dX8_tellMeetings_35 : decode cX8_tellMeetings 35 = .ok (.iastore, 1) := dk_79 (dk_at dksX8_tellMeetings_1 11 rfl rfl)
theorem dX8_tellMeetings_36 : decode cX8_tellMeetings 36 = .ok (.aload_n 0, 1) := dk_42 (dk_at dksX8_tellMeetings_1 12 rfl rfl)
theorem dX8_tellMeetings_37 : decode cX8_tellMeetings 37 = .ok (.getfield 49, 3) := dk_180 0 49 (dk_at dksX8_tellMeetings_1 13 rfl rfl)
theorem dX8_tellMeetings_40 : decode cX8_tellMeetings 40 = .ok (.iload_n 1, 1) := dk_27 (dk_at dksX8_tellMeetings_1 16 rfl rfl)
theorem dX8_tellMeetings_41 : decode cX8_tellMeetings 41 = .ok (.iaload, 1) := dk_46 (dk_at dksX8_tellMeetings_1 17 rfl rfl)
theorem dX8_tellMeetings_42 : decode cX8_tellMeetings 42 = .ok (.iconst 1, 1) := dk_4 (dk_at dksX8_tellMeetings_1 18 rfl rfl)
theorem dX8_tellMeetings_43 : decode cX8_tellMeetings 43 = .ok (.isub, 1) := dk_100 (dk_at dksX8_tellMeetings_1 19 rfl rfl)
theorem dX8_tellMeetings_44 : decode cX8_tellMeetings 44 = .ok (.istore_n 3, 1) := dk_62 (dk_at dksX8_tellMeetings_1 20 rfl rfl)
theorem dX8_tellMeetings_45 : decode cX8_tellMeetings 45 = .ok (.iload_n 3, 1) := dk_29 (dk_at dksX8_tellMeetings_1 21 rfl rfl)
theorem dX8_tellMeetings_46 : decode cX8_tellMeetings 46 = .ok (.ifCond .lt 71, 3) := dk_155 0 71 (dk_at dksX8_tellMeetings_2 0 rfl rfl)
theorem dX8_tellMeetings_49 : decode cX8_tellMeetings 49 = .ok (.aload_n 0, 1) := dk_42 (dk_at dksX8_tellMeetings_2 3 rfl rfl)
theorem dX8_tellMeetings_50 : decode cX8_tellMeetings 50 = .ok (.getfield 94, 3) := dk_180 0 94 (dk_at dksX8_tellMeetings_2 4 rfl rfl)
theorem dX8_tellMeetings_53 : decode cX8_tellMeetings 53 = .ok (.bipush 7, 2) := dk_16 7 (dk_at dksX8_tellMeetings_2 7 rfl rfl)
theorem dX8_tellMeetings_55 : decode cX8_tellMeetings 55 = .ok (.iload_n 1, 1) := dk_27 (dk_at dksX8_tellMeetings_2 9 rfl rfl)
theorem dX8_tellMeetings_56 : decode cX8_tellMeetings 56 = .ok (.imul, 1) := dk_104 (dk_at dksX8_tellMeetings_2 10 rfl rfl)
theorem dX8_tellMeetings_57 : decode cX8_tellMeetings 57 = .ok (.iload_n 3, 1) := dk_29 (dk_at dksX8_tellMeetings_2 11 rfl rfl)
theorem dX8_tellMeetings_58 : decode cX8_tellMeetings 58 = .ok (.iadd, 1) := dk_96 (dk_at dksX8_tellMeetings_2 12 rfl rfl)
theorem dX8_tellMeetings_59 : decode cX8_tellMeetings 59 = .ok (.iaload, 1) := dk_46 (dk_at dksX8_tellMeetings_2 13 rfl rfl)
theorem dX8_tellMeetings_60 : decode cX8_tellMeetings 60 = .ok (.istore 4, 2) := dk_54 4 (dk_at dksX8_tellMeetings_2 14 rfl rfl)
theorem dX8_tellMeetings_62 : decode cX8_tellMeetings 62 = .ok (.aload_n 0, 1) := dk_42 (dk_at dksX8_tellMeetings_2 16 rfl rfl)
theorem dX8_tellMeetings_63 : decode cX8_tellMeetings 63 = .ok (.iload_n 2, 1) := dk_28 (dk_at dksX8_tellMeetings_2 17 rfl rfl)
theorem dX8_tellMeetings_64 : decode cX8_tellMeetings 64 = .ok (.iload 4, 2) := dk_21 4 (dk_at dksX8_tellMeetings_2 18 rfl rfl)
theorem dX8_tellMeetings_66 : decode cX8_tellMeetings 66 = .ok (.invokevirtual 346, 3) := dk_182 1 90 (dk_at dksX8_tellMeetings_2 20 rfl rfl)
theorem dX8_tellMeetings_69 : decode cX8_tellMeetings 69 = .ok (.istore 5, 2) := dk_54 5 (dk_at dksX8_tellMeetings_3 0 rfl rfl)
theorem dX8_tellMeetings_71 : decode cX8_tellMeetings 71 = .ok (.iload 5, 2) := dk_21 5 (dk_at dksX8_tellMeetings_3 2 rfl rfl)
theorem dX8_tellMeetings_73 : decode cX8_tellMeetings 73 = .ok (.iconst (-1), 1) := dk_2 (dk_at dksX8_tellMeetings_3 4 rfl rfl)
theorem dX8_tellMeetings_74 : decode cX8_tellMeetings 74 = .ok (.if_icmp .eq 37, 3) := dk_159 0 37 (dk_at dksX8_tellMeetings_3 5 rfl rfl)
theorem dX8_tellMeetings_77 : decode cX8_tellMeetings 77 = .ok (.aload_n 0, 1) := dk_42 (dk_at dksX8_tellMeetings_3 8 rfl rfl)
theorem dX8_tellMeetings_78 : decode cX8_tellMeetings 78 = .ok (.aload_n 0, 1) := dk_42 (dk_at dksX8_tellMeetings_3 9 rfl rfl)
theorem dX8_tellMeetings_79 : decode cX8_tellMeetings 79 = .ok (.getfield 91, 3) := dk_180 0 91 (dk_at dksX8_tellMeetings_3 10 rfl rfl)
theorem dX8_tellMeetings_82 : decode cX8_tellMeetings 82 = .ok (.bipush 7, 2) := dk_16 7 (dk_at dksX8_tellMeetings_3 13 rfl rfl)
theorem dX8_tellMeetings_84 : decode cX8_tellMeetings 84 = .ok (.iload_n 1, 1) := dk_27 (dk_at dksX8_tellMeetings_3 15 rfl rfl)
theorem dX8_tellMeetings_85 : decode cX8_tellMeetings 85 = .ok (.imul, 1) := dk_104 (dk_at dksX8_tellMeetings_3 16 rfl rfl)
theorem dX8_tellMeetings_86 : decode cX8_tellMeetings 86 = .ok (.iload_n 3, 1) := dk_29 (dk_at dksX8_tellMeetings_3 17 rfl rfl)
theorem dX8_tellMeetings_87 : decode cX8_tellMeetings 87 = .ok (.iadd, 1) := dk_96 (dk_at dksX8_tellMeetings_3 18 rfl rfl)
theorem dX8_tellMeetings_88 : decode cX8_tellMeetings 88 = .ok (.iaload, 1) := dk_46 (dk_at dksX8_tellMeetings_3 19 rfl rfl)
theorem dX8_tellMeetings_89 : decode cX8_tellMeetings 89 = .ok (.iload 5, 2) := dk_21 5 (dk_at dksX8_tellMeetings_3 20 rfl rfl)
theorem dX8_tellMeetings_91 : decode cX8_tellMeetings 91 = .ok (.iload 4, 2) := dk_21 4 (dk_at dksX8_tellMeetings_3 22 rfl rfl)
theorem dX8_tellMeetings_93 : decode cX8_tellMeetings 93 = .ok (.invokevirtual 349, 3) := dk_182 1 93 (dk_at dksX8_tellMeetings_4 0 rfl rfl)
theorem dX8_tellMeetings_96 : decode cX8_tellMeetings 96 = .ok (.ifCond .eq 15, 3) := dk_153 0 15 (dk_at dksX8_tellMeetings_4 3 rfl rfl)
theorem dX8_tellMeetings_99 : decode cX8_tellMeetings 99 = .ok (.aload_n 0, 1) := dk_42 (dk_at dksX8_tellMeetings_4 6 rfl rfl)
theorem dX8_tellMeetings_100 : decode cX8_tellMeetings 100 = .ok (.getfield 97, 3) := dk_180 0 97 (dk_at dksX8_tellMeetings_4 7 rfl rfl)
theorem dX8_tellMeetings_103 : decode cX8_tellMeetings 103 = .ok (.iconst 5, 1) := dk_8 (dk_at dksX8_tellMeetings_4 10 rfl rfl)
theorem dX8_tellMeetings_104 : decode cX8_tellMeetings 104 = .ok (.iload_n 1, 1) := dk_27 (dk_at dksX8_tellMeetings_4 11 rfl rfl)
theorem dX8_tellMeetings_105 : decode cX8_tellMeetings 105 = .ok (.imul, 1) := dk_104 (dk_at dksX8_tellMeetings_4 12 rfl rfl)
theorem dX8_tellMeetings_106 : decode cX8_tellMeetings 106 = .ok (.iload_n 2, 1) := dk_28 (dk_at dksX8_tellMeetings_4 13 rfl rfl)
theorem dX8_tellMeetings_107 : decode cX8_tellMeetings 107 = .ok (.iadd, 1) := dk_96 (dk_at dksX8_tellMeetings_4 14 rfl rfl)
theorem dX8_tellMeetings_108 : decode cX8_tellMeetings 108 = .ok (.iload 4, 2) := dk_21 4 (dk_at dksX8_tellMeetings_4 15 rfl rfl)
theorem dX8_tellMeetings_110 : decode cX8_tellMeetings 110 = .ok (.iastore, 1) := dk_79 (dk_at dksX8_tellMeetings_4 17 rfl rfl)
theorem dX8_tellMeetings_111 : decode cX8_tellMeetings 111 = .ok (.iinc 3 (-1), 3) := dk_132 3 255 (dk_at dksX8_tellMeetings_4 18 rfl rfl)
theorem dX8_tellMeetings_114 : decode cX8_tellMeetings 114 = .ok (.goto (-69), 3) := dk_167 255 187 (dk_at dksX8_tellMeetings_4 21 rfl rfl)
theorem dX8_tellMeetings_117 : decode cX8_tellMeetings 117 = .ok (.iinc 2 1, 3) := dk_132 2 1 (dk_at dksX8_tellMeetings_5 0 rfl rfl)
theorem dX8_tellMeetings_120 : decode cX8_tellMeetings 120 = .ok (.goto (-106), 3) := dk_167 255 150 (dk_at dksX8_tellMeetings_5 3 rfl rfl)
theorem dX8_tellMeetings_123 : decode cX8_tellMeetings 123 = .ok (.iinc 1 1, 3) := dk_132 1 1 (dk_at dksX8_tellMeetings_5 6 rfl rfl)
theorem dX8_tellMeetings_126 : decode cX8_tellMeetings 126 = .ok (.goto (-124), 3) := dk_167 255 132 (dk_at dksX8_tellMeetings_5 9 rfl rfl)
theorem dX8_tellMeetings_129 : decode cX8_tellMeetings 129 = .ok (.return_, 1) := dk_177 (dk_at dksX8_tellMeetings_5 12 rfl rfl)
abbrev cX8_townOn : ByteArray := prog_20_method_48_code
def yX8_townOn : MethodName := ⟨RX8, "townOn", "(II)I"⟩
def dkwX8_townOn_1 : List UInt8 := [160, 0, 15, 42, 180, 0, 91, 16, 7, 27, 104, 29, 96, 46, 172, 132, 3, 1, 167, 255, 216, 2, 172]
abbrev dktX8_townOn_1 : List UInt8 := dkwX8_townOn_1 ++ []
def dkwX8_townOn_0 : List UInt8 := [3, 62, 29, 42, 180, 0, 49, 27, 46, 162, 0, 36, 42, 180, 0, 94, 16, 7, 27, 104, 29, 96, 46, 28]
abbrev dktX8_townOn_0 : List UInt8 := dkwX8_townOn_0 ++ dktX8_townOn_1
theorem dksX8_townOn_0 : cX8_townOn.data.toList.drop 0 = dktX8_townOn_0 := by decide +kernel
theorem dksX8_townOn_1 : cX8_townOn.data.toList.drop 24 = dktX8_townOn_1 := dk_seg dksX8_townOn_0 24 rfl rfl
theorem dX8_townOn_0 : decode cX8_townOn 0 = .ok (.iconst 0, 1) := dk_3 (dk_at dksX8_townOn_0 0 rfl rfl)
theorem dX8_townOn_1 : decode cX8_townOn 1 = .ok (.istore_n 3, 1) := dk_62 (dk_at dksX8_townOn_0 1 rfl rfl)
theorem dX8_townOn_2 : decode cX8_townOn 2 = .ok (.iload_n 3, 1) := dk_29 (dk_at dksX8_townOn_0 2 rfl rfl)
theorem dX8_townOn_3 : decode cX8_townOn 3 = .ok (.aload_n 0, 1) := dk_42 (dk_at dksX8_townOn_0 3 rfl rfl)
theorem dX8_townOn_4 : decode cX8_townOn 4 = .ok (.getfield 49, 3) := dk_180 0 49 (dk_at dksX8_townOn_0 4 rfl rfl)
theorem dX8_townOn_7 : decode cX8_townOn 7 = .ok (.iload_n 1, 1) := dk_27 (dk_at dksX8_townOn_0 7 rfl rfl)
theorem dX8_townOn_8 : decode cX8_townOn 8 = .ok (.iaload, 1) := dk_46 (dk_at dksX8_townOn_0 8 rfl rfl)
theorem dX8_townOn_9 : decode cX8_townOn 9 = .ok (.if_icmp .ge 36, 3) := dk_162 0 36 (dk_at dksX8_townOn_0 9 rfl rfl)
theorem dX8_townOn_12 : decode cX8_townOn 12 = .ok (.aload_n 0, 1) := dk_42 (dk_at dksX8_townOn_0 12 rfl rfl)
theorem dX8_townOn_13 : decode cX8_townOn 13 = .ok (.getfield 94, 3) := dk_180 0 94 (dk_at dksX8_townOn_0 13 rfl rfl)
theorem dX8_townOn_16 : decode cX8_townOn 16 = .ok (.bipush 7, 2) := dk_16 7 (dk_at dksX8_townOn_0 16 rfl rfl)
theorem dX8_townOn_18 : decode cX8_townOn 18 = .ok (.iload_n 1, 1) := dk_27 (dk_at dksX8_townOn_0 18 rfl rfl)
theorem dX8_townOn_19 : decode cX8_townOn 19 = .ok (.imul, 1) := dk_104 (dk_at dksX8_townOn_0 19 rfl rfl)
theorem dX8_townOn_20 : decode cX8_townOn 20 = .ok (.iload_n 3, 1) := dk_29 (dk_at dksX8_townOn_0 20 rfl rfl)
theorem dX8_townOn_21 : decode cX8_townOn 21 = .ok (.iadd, 1) := dk_96 (dk_at dksX8_townOn_0 21 rfl rfl)
theorem dX8_townOn_22 : decode cX8_townOn 22 = .ok (.iaload, 1) := dk_46 (dk_at dksX8_townOn_0 22 rfl rfl)
theorem dX8_townOn_23 : decode cX8_townOn 23 = .ok (.iload_n 2, 1) := dk_28 (dk_at dksX8_townOn_0 23 rfl rfl)
theorem dX8_townOn_24 : decode cX8_townOn 24 = .ok (.if_icmp .ne 15, 3) := dk_160 0 15 (dk_at dksX8_townOn_1 0 rfl rfl)
theorem dX8_townOn_27 : decode cX8_townOn 27 = .ok (.aload_n 0, 1) := dk_42 (dk_at dksX8_townOn_1 3 rfl rfl)
theorem dX8_townOn_28 : decode cX8_townOn 28 = .ok (.getfield 91, 3) := dk_180 0 91 (dk_at dksX8_townOn_1 4 rfl rfl)
theorem dX8_townOn_31 : decode cX8_townOn 31 = .ok (.bipush 7, 2) := dk_16 7 (dk_at dksX8_townOn_1 7 rfl rfl)
theorem dX8_townOn_33 : decode cX8_townOn 33 = .ok (.iload_n 1, 1) := dk_27 (dk_at dksX8_townOn_1 9 rfl rfl)
theorem dX8_townOn_34 : decode cX8_townOn 34 = .ok (.imul, 1) := dk_104 (dk_at dksX8_townOn_1 10 rfl rfl)
theorem dX8_townOn_35 : decode cX8_townOn 35 = .ok (.iload_n 3, 1) := dk_29 (dk_at dksX8_townOn_1 11 rfl rfl)
theorem dX8_townOn_36 : decode cX8_townOn 36 = .ok (.iadd, 1) := dk_96 (dk_at dksX8_townOn_1 12 rfl rfl)
theorem dX8_townOn_37 : decode cX8_townOn 37 = .ok (.iaload, 1) := dk_46 (dk_at dksX8_townOn_1 13 rfl rfl)
theorem dX8_townOn_38 : decode cX8_townOn 38 = .ok (.ireturn, 1) := dk_172 (dk_at dksX8_townOn_1 14 rfl rfl)
theorem dX8_townOn_39 : decode cX8_townOn 39 = .ok (.iinc 3 1, 3) := dk_132 3 1 (dk_at dksX8_townOn_1 15 rfl rfl)
theorem dX8_townOn_42 : decode cX8_townOn 42 = .ok (.goto (-40), 3) := dk_167 255 216 (dk_at dksX8_townOn_1 18 rfl rfl)
theorem dX8_townOn_45 : decode cX8_townOn 45 = .ok (.iconst (-1), 1) := dk_2 (dk_at dksX8_townOn_1 21 rfl rfl)
theorem dX8_townOn_46 : decode cX8_townOn 46 = .ok (.ireturn, 1) := dk_172 (dk_at dksX8_townOn_1 22 rfl rfl)
abbrev cX8_isMeeting : ByteArray := prog_20_method_49_code
def yX8_isMeeting : MethodName := ⟨RX8, "isMeeting", "(III)Z"⟩
def dkwX8_isMeeting_4 : List UInt8 := [184, 1, 20, 46, 21, 6, 163, 0, 5, 4, 172, 132, 4, 1, 167, 255, 171, 3, 172]
abbrev dktX8_isMeeting_4 : List UInt8 := dkwX8_isMeeting_4 ++ []
def dkwX8_isMeeting_3 : List UInt8 := [180, 0, 70, 27, 21, 5, 184, 1, 20, 46, 21, 6, 163, 0, 21, 42, 180, 0, 70, 28, 21, 5]
abbrev dktX8_isMeeting_3 : List UInt8 := dkwX8_isMeeting_3 ++ dktX8_isMeeting_4
def dkwX8_isMeeting_2 : List UInt8 := [21, 4, 104, 5, 96, 46, 54, 6, 42, 180, 0, 79, 6, 21, 4, 104, 4, 96, 46, 29, 160, 0, 37, 42]
abbrev dktX8_isMeeting_2 : List UInt8 := dkwX8_isMeeting_2 ++ dktX8_isMeeting_3
def dkwX8_isMeeting_1 : List UInt8 := [42, 180, 1, 64, 162, 0, 82, 42, 180, 0, 79, 6, 21, 4, 104, 46, 54, 5, 42, 180, 0, 79, 6]
abbrev dktX8_isMeeting_1 : List UInt8 := dkwX8_isMeeting_1 ++ dktX8_isMeeting_2
def dkwX8_isMeeting_0 : List UInt8 := [27, 28, 160, 0, 17, 42, 180, 1, 55, 27, 122, 4, 126, 4, 160, 0, 5, 4, 172, 3, 54, 4, 21, 4]
abbrev dktX8_isMeeting_0 : List UInt8 := dkwX8_isMeeting_0 ++ dktX8_isMeeting_1
theorem dksX8_isMeeting_0 : cX8_isMeeting.data.toList.drop 0 = dktX8_isMeeting_0 := by decide +kernel
theorem dksX8_isMeeting_1 : cX8_isMeeting.data.toList.drop 24 = dktX8_isMeeting_1 := dk_seg dksX8_isMeeting_0 24 rfl rfl
theorem dksX8_isMeeting_2 : cX8_isMeeting.data.toList.drop 47 = dktX8_isMeeting_2 := dk_seg dksX8_isMeeting_1 23 rfl rfl
theorem dksX8_isMeeting_3 : cX8_isMeeting.data.toList.drop 71 = dktX8_isMeeting_3 := dk_seg dksX8_isMeeting_2 24 rfl rfl
theorem dksX8_isMeeting_4 : cX8_isMeeting.data.toList.drop 93 = dktX8_isMeeting_4 := dk_seg dksX8_isMeeting_3 22 rfl rfl
theorem dX8_isMeeting_0 : decode cX8_isMeeting 0 = .ok (.iload_n 1, 1) := dk_27 (dk_at dksX8_isMeeting_0 0 rfl rfl)
theorem dX8_isMeeting_1 : decode cX8_isMeeting 1 = .ok (.iload_n 2, 1) := dk_28 (dk_at dksX8_isMeeting_0 1 rfl rfl)
theorem dX8_isMeeting_2 : decode cX8_isMeeting 2 = .ok (.if_icmp .ne 17, 3) := dk_160 0 17 (dk_at dksX8_isMeeting_0 2 rfl rfl)
theorem dX8_isMeeting_5 : decode cX8_isMeeting 5 = .ok (.aload_n 0, 1) := dk_42 (dk_at dksX8_isMeeting_0 5 rfl rfl)
theorem dX8_isMeeting_6 : decode cX8_isMeeting 6 = .ok (.getfield 311, 3) := dk_180 1 55 (dk_at dksX8_isMeeting_0 6 rfl rfl)
theorem dX8_isMeeting_9 : decode cX8_isMeeting 9 = .ok (.iload_n 1, 1) := dk_27 (dk_at dksX8_isMeeting_0 9 rfl rfl)
theorem dX8_isMeeting_10 : decode cX8_isMeeting 10 = .ok (.ishr, 1) := dk_122 (dk_at dksX8_isMeeting_0 10 rfl rfl)
theorem dX8_isMeeting_11 : decode cX8_isMeeting 11 = .ok (.iconst 1, 1) := dk_4 (dk_at dksX8_isMeeting_0 11 rfl rfl)
theorem dX8_isMeeting_12 : decode cX8_isMeeting 12 = .ok (.iand, 1) := dk_126 (dk_at dksX8_isMeeting_0 12 rfl rfl)
theorem dX8_isMeeting_13 : decode cX8_isMeeting 13 = .ok (.iconst 1, 1) := dk_4 (dk_at dksX8_isMeeting_0 13 rfl rfl)
theorem dX8_isMeeting_14 : decode cX8_isMeeting 14 = .ok (.if_icmp .ne 5, 3) := dk_160 0 5 (dk_at dksX8_isMeeting_0 14 rfl rfl)
theorem dX8_isMeeting_17 : decode cX8_isMeeting 17 = .ok (.iconst 1, 1) := dk_4 (dk_at dksX8_isMeeting_0 17 rfl rfl)
theorem dX8_isMeeting_18 : decode cX8_isMeeting 18 = .ok (.ireturn, 1) := dk_172 (dk_at dksX8_isMeeting_0 18 rfl rfl)
theorem dX8_isMeeting_19 : decode cX8_isMeeting 19 = .ok (.iconst 0, 1) := dk_3 (dk_at dksX8_isMeeting_0 19 rfl rfl)
theorem dX8_isMeeting_20 : decode cX8_isMeeting 20 = .ok (.istore 4, 2) := dk_54 4 (dk_at dksX8_isMeeting_0 20 rfl rfl)
theorem dX8_isMeeting_22 : decode cX8_isMeeting 22 = .ok (.iload 4, 2) := dk_21 4 (dk_at dksX8_isMeeting_0 22 rfl rfl)
theorem dX8_isMeeting_24 : decode cX8_isMeeting 24 = .ok (.aload_n 0, 1) := dk_42 (dk_at dksX8_isMeeting_1 0 rfl rfl)
theorem dX8_isMeeting_25 : decode cX8_isMeeting 25 = .ok (.getfield 320, 3) := dk_180 1 64 (dk_at dksX8_isMeeting_1 1 rfl rfl)
theorem dX8_isMeeting_28 : decode cX8_isMeeting 28 = .ok (.if_icmp .ge 82, 3) := dk_162 0 82 (dk_at dksX8_isMeeting_1 4 rfl rfl)
theorem dX8_isMeeting_31 : decode cX8_isMeeting 31 = .ok (.aload_n 0, 1) := dk_42 (dk_at dksX8_isMeeting_1 7 rfl rfl)
theorem dX8_isMeeting_32 : decode cX8_isMeeting 32 = .ok (.getfield 79, 3) := dk_180 0 79 (dk_at dksX8_isMeeting_1 8 rfl rfl)
theorem dX8_isMeeting_35 : decode cX8_isMeeting 35 = .ok (.iconst 3, 1) := dk_6 (dk_at dksX8_isMeeting_1 11 rfl rfl)
theorem dX8_isMeeting_36 : decode cX8_isMeeting 36 = .ok (.iload 4, 2) := dk_21 4 (dk_at dksX8_isMeeting_1 12 rfl rfl)
theorem dX8_isMeeting_38 : decode cX8_isMeeting 38 = .ok (.imul, 1) := dk_104 (dk_at dksX8_isMeeting_1 14 rfl rfl)
theorem dX8_isMeeting_39 : decode cX8_isMeeting 39 = .ok (.iaload, 1) := dk_46 (dk_at dksX8_isMeeting_1 15 rfl rfl)
theorem dX8_isMeeting_40 : decode cX8_isMeeting 40 = .ok (.istore 5, 2) := dk_54 5 (dk_at dksX8_isMeeting_1 16 rfl rfl)
theorem dX8_isMeeting_42 : decode cX8_isMeeting 42 = .ok (.aload_n 0, 1) := dk_42 (dk_at dksX8_isMeeting_1 18 rfl rfl)
theorem dX8_isMeeting_43 : decode cX8_isMeeting 43 = .ok (.getfield 79, 3) := dk_180 0 79 (dk_at dksX8_isMeeting_1 19 rfl rfl)
theorem dX8_isMeeting_46 : decode cX8_isMeeting 46 = .ok (.iconst 3, 1) := dk_6 (dk_at dksX8_isMeeting_1 22 rfl rfl)
theorem dX8_isMeeting_47 : decode cX8_isMeeting 47 = .ok (.iload 4, 2) := dk_21 4 (dk_at dksX8_isMeeting_2 0 rfl rfl)
theorem dX8_isMeeting_49 : decode cX8_isMeeting 49 = .ok (.imul, 1) := dk_104 (dk_at dksX8_isMeeting_2 2 rfl rfl)
theorem dX8_isMeeting_50 : decode cX8_isMeeting 50 = .ok (.iconst 2, 1) := dk_5 (dk_at dksX8_isMeeting_2 3 rfl rfl)
theorem dX8_isMeeting_51 : decode cX8_isMeeting 51 = .ok (.iadd, 1) := dk_96 (dk_at dksX8_isMeeting_2 4 rfl rfl)
theorem dX8_isMeeting_52 : decode cX8_isMeeting 52 = .ok (.iaload, 1) := dk_46 (dk_at dksX8_isMeeting_2 5 rfl rfl)
theorem dX8_isMeeting_53 : decode cX8_isMeeting 53 = .ok (.istore 6, 2) := dk_54 6 (dk_at dksX8_isMeeting_2 6 rfl rfl)
theorem dX8_isMeeting_55 : decode cX8_isMeeting 55 = .ok (.aload_n 0, 1) := dk_42 (dk_at dksX8_isMeeting_2 8 rfl rfl)
theorem dX8_isMeeting_56 : decode cX8_isMeeting 56 = .ok (.getfield 79, 3) := dk_180 0 79 (dk_at dksX8_isMeeting_2 9 rfl rfl)
theorem dX8_isMeeting_59 : decode cX8_isMeeting 59 = .ok (.iconst 3, 1) := dk_6 (dk_at dksX8_isMeeting_2 12 rfl rfl)
theorem dX8_isMeeting_60 : decode cX8_isMeeting 60 = .ok (.iload 4, 2) := dk_21 4 (dk_at dksX8_isMeeting_2 13 rfl rfl)
theorem dX8_isMeeting_62 : decode cX8_isMeeting 62 = .ok (.imul, 1) := dk_104 (dk_at dksX8_isMeeting_2 15 rfl rfl)
theorem dX8_isMeeting_63 : decode cX8_isMeeting 63 = .ok (.iconst 1, 1) := dk_4 (dk_at dksX8_isMeeting_2 16 rfl rfl)
theorem dX8_isMeeting_64 : decode cX8_isMeeting 64 = .ok (.iadd, 1) := dk_96 (dk_at dksX8_isMeeting_2 17 rfl rfl)
theorem dX8_isMeeting_65 : decode cX8_isMeeting 65 = .ok (.iaload, 1) := dk_46 (dk_at dksX8_isMeeting_2 18 rfl rfl)
theorem dX8_isMeeting_66 : decode cX8_isMeeting 66 = .ok (.iload_n 3, 1) := dk_29 (dk_at dksX8_isMeeting_2 19 rfl rfl)
theorem dX8_isMeeting_67 : decode cX8_isMeeting 67 = .ok (.if_icmp .ne 37, 3) := dk_160 0 37 (dk_at dksX8_isMeeting_2 20 rfl rfl)
theorem dX8_isMeeting_70 : decode cX8_isMeeting 70 = .ok (.aload_n 0, 1) := dk_42 (dk_at dksX8_isMeeting_2 23 rfl rfl)
theorem dX8_isMeeting_71 : decode cX8_isMeeting 71 = .ok (.getfield 70, 3) := dk_180 0 70 (dk_at dksX8_isMeeting_3 0 rfl rfl)
theorem dX8_isMeeting_74 : decode cX8_isMeeting 74 = .ok (.iload_n 1, 1) := dk_27 (dk_at dksX8_isMeeting_3 3 rfl rfl)
theorem dX8_isMeeting_75 : decode cX8_isMeeting 75 = .ok (.iload 5, 2) := dk_21 5 (dk_at dksX8_isMeeting_3 4 rfl rfl)
theorem dX8_isMeeting_77 : decode cX8_isMeeting 77 = .ok (.invokestatic 276, 3) := dk_184 1 20 (dk_at dksX8_isMeeting_3 6 rfl rfl)
theorem dX8_isMeeting_80 : decode cX8_isMeeting 80 = .ok (.iaload, 1) := dk_46 (dk_at dksX8_isMeeting_3 9 rfl rfl)
theorem dX8_isMeeting_81 : decode cX8_isMeeting 81 = .ok (.iload 6, 2) := dk_21 6 (dk_at dksX8_isMeeting_3 10 rfl rfl)
theorem dX8_isMeeting_83 : decode cX8_isMeeting 83 = .ok (.if_icmp .gt 21, 3) := dk_163 0 21 (dk_at dksX8_isMeeting_3 12 rfl rfl)
theorem dX8_isMeeting_86 : decode cX8_isMeeting 86 = .ok (.aload_n 0, 1) := dk_42 (dk_at dksX8_isMeeting_3 15 rfl rfl)
theorem dX8_isMeeting_87 : decode cX8_isMeeting 87 = .ok (.getfield 70, 3) := dk_180 0 70 (dk_at dksX8_isMeeting_3 16 rfl rfl)
theorem dX8_isMeeting_90 : decode cX8_isMeeting 90 = .ok (.iload_n 2, 1) := dk_28 (dk_at dksX8_isMeeting_3 19 rfl rfl)
theorem dX8_isMeeting_91 : decode cX8_isMeeting 91 = .ok (.iload 5, 2) := dk_21 5 (dk_at dksX8_isMeeting_3 20 rfl rfl)
theorem dX8_isMeeting_93 : decode cX8_isMeeting 93 = .ok (.invokestatic 276, 3) := dk_184 1 20 (dk_at dksX8_isMeeting_4 0 rfl rfl)
theorem dX8_isMeeting_96 : decode cX8_isMeeting 96 = .ok (.iaload, 1) := dk_46 (dk_at dksX8_isMeeting_4 3 rfl rfl)
theorem dX8_isMeeting_97 : decode cX8_isMeeting 97 = .ok (.iload 6, 2) := dk_21 6 (dk_at dksX8_isMeeting_4 4 rfl rfl)
theorem dX8_isMeeting_99 : decode cX8_isMeeting 99 = .ok (.if_icmp .gt 5, 3) := dk_163 0 5 (dk_at dksX8_isMeeting_4 6 rfl rfl)
theorem dX8_isMeeting_102 : decode cX8_isMeeting 102 = .ok (.iconst 1, 1) := dk_4 (dk_at dksX8_isMeeting_4 9 rfl rfl)
theorem dX8_isMeeting_103 : decode cX8_isMeeting 103 = .ok (.ireturn, 1) := dk_172 (dk_at dksX8_isMeeting_4 10 rfl rfl)
theorem dX8_isMeeting_104 : decode cX8_isMeeting 104 = .ok (.iinc 4 1, 3) := dk_132 4 1 (dk_at dksX8_isMeeting_4 11 rfl rfl)
theorem dX8_isMeeting_107 : decode cX8_isMeeting 107 = .ok (.goto (-85), 3) := dk_167 255 171 (dk_at dksX8_isMeeting_4 14 rfl rfl)
theorem dX8_isMeeting_110 : decode cX8_isMeeting 110 = .ok (.iconst 0, 1) := dk_3 (dk_at dksX8_isMeeting_4 17 rfl rfl)
theorem dX8_isMeeting_111 : decode cX8_isMeeting 111 = .ok (.ireturn, 1) := dk_172 (dk_at dksX8_isMeeting_4 18 rfl rfl)
abbrev cX8_hear : ByteArray := prog_20_method_54_code
def yX8_hear : MethodName := ⟨RX8, "hear", "(III)V"⟩
def dkwX8_hear_4 : List UInt8 := [180, 0, 111, 21, 5, 28, 79, 132, 4, 1, 167, 255, 155, 177]
abbrev dktX8_hear_4 : List UInt8 := dkwX8_hear_4 ++ []
def dkwX8_hear_3 : List UInt8 := [29, 182, 1, 106, 153, 0, 7, 4, 167, 0, 4, 3, 79, 42, 180, 0, 108, 21, 5, 29, 79, 42]
abbrev dktX8_hear_3 : List UInt8 := dkwX8_hear_3 ++ dktX8_hear_4
def dkwX8_hear_2 : List UInt8 := [180, 0, 106, 21, 5, 46, 2, 159, 0, 6, 167, 0, 43, 42, 180, 0, 106, 21, 5, 42, 21, 4, 27, 28]
abbrev dktX8_hear_2 : List UInt8 := dkwX8_hear_2 ++ dktX8_hear_3
def dkwX8_hear_1 : List UInt8 := [21, 4, 104, 27, 96, 54, 5, 42, 180, 0, 55, 16, 9, 21, 4, 104, 28, 96, 46, 2, 159, 0, 57, 42]
abbrev dktX8_hear_1 : List UInt8 := dkwX8_hear_1 ++ dktX8_hear_2
def dkwX8_hear_0 : List UInt8 := [3, 54, 4, 21, 4, 42, 180, 0, 34, 8, 46, 162, 0, 96, 42, 28, 29, 182, 1, 103, 154, 0, 87, 8]
abbrev dktX8_hear_0 : List UInt8 := dkwX8_hear_0 ++ dktX8_hear_1
theorem dksX8_hear_0 : cX8_hear.data.toList.drop 0 = dktX8_hear_0 := by decide +kernel
theorem dksX8_hear_1 : cX8_hear.data.toList.drop 24 = dktX8_hear_1 := dk_seg dksX8_hear_0 24 rfl rfl
theorem dksX8_hear_2 : cX8_hear.data.toList.drop 48 = dktX8_hear_2 := dk_seg dksX8_hear_1 24 rfl rfl
theorem dksX8_hear_3 : cX8_hear.data.toList.drop 72 = dktX8_hear_3 := dk_seg dksX8_hear_2 24 rfl rfl
theorem dksX8_hear_4 : cX8_hear.data.toList.drop 94 = dktX8_hear_4 := dk_seg dksX8_hear_3 22 rfl rfl
theorem dX8_hear_0 : decode cX8_hear 0 = .ok (.iconst 0, 1) := dk_3 (dk_at dksX8_hear_0 0 rfl rfl)
theorem dX8_hear_1 : decode cX8_hear 1 = .ok (.istore 4, 2) := dk_54 4 (dk_at dksX8_hear_0 1 rfl rfl)
theorem dX8_hear_3 : decode cX8_hear 3 = .ok (.iload 4, 2) := dk_21 4 (dk_at dksX8_hear_0 3 rfl rfl)
theorem dX8_hear_5 : decode cX8_hear 5 = .ok (.aload_n 0, 1) := dk_42 (dk_at dksX8_hear_0 5 rfl rfl)
theorem dX8_hear_6 : decode cX8_hear 6 = .ok (.getfield 34, 3) := dk_180 0 34 (dk_at dksX8_hear_0 6 rfl rfl)
theorem dX8_hear_9 : decode cX8_hear 9 = .ok (.iconst 5, 1) := dk_8 (dk_at dksX8_hear_0 9 rfl rfl)
theorem dX8_hear_10 : decode cX8_hear 10 = .ok (.iaload, 1) := dk_46 (dk_at dksX8_hear_0 10 rfl rfl)
theorem dX8_hear_11 : decode cX8_hear 11 = .ok (.if_icmp .ge 96, 3) := dk_162 0 96 (dk_at dksX8_hear_0 11 rfl rfl)
theorem dX8_hear_14 : decode cX8_hear 14 = .ok (.aload_n 0, 1) := dk_42 (dk_at dksX8_hear_0 14 rfl rfl)
theorem dX8_hear_15 : decode cX8_hear 15 = .ok (.iload_n 2, 1) := dk_28 (dk_at dksX8_hear_0 15 rfl rfl)
theorem dX8_hear_16 : decode cX8_hear 16 = .ok (.iload_n 3, 1) := dk_29 (dk_at dksX8_hear_0 16 rfl rfl)
theorem dX8_hear_17 : decode cX8_hear 17 = .ok (.invokevirtual 359, 3) := dk_182 1 103 (dk_at dksX8_hear_0 17 rfl rfl)
theorem dX8_hear_20 : decode cX8_hear 20 = .ok (.ifCond .ne 87, 3) := dk_154 0 87 (dk_at dksX8_hear_0 20 rfl rfl)
theorem dX8_hear_23 : decode cX8_hear 23 = .ok (.iconst 5, 1) := dk_8 (dk_at dksX8_hear_0 23 rfl rfl)
theorem dX8_hear_24 : decode cX8_hear 24 = .ok (.iload 4, 2) := dk_21 4 (dk_at dksX8_hear_1 0 rfl rfl)
theorem dX8_hear_26 : decode cX8_hear 26 = .ok (.imul, 1) := dk_104 (dk_at dksX8_hear_1 2 rfl rfl)
theorem dX8_hear_27 : decode cX8_hear 27 = .ok (.iload_n 1, 1) := dk_27 (dk_at dksX8_hear_1 3 rfl rfl)
theorem dX8_hear_28 : decode cX8_hear 28 = .ok (.iadd, 1) := dk_96 (dk_at dksX8_hear_1 4 rfl rfl)
theorem dX8_hear_29 : decode cX8_hear 29 = .ok (.istore 5, 2) := dk_54 5 (dk_at dksX8_hear_1 5 rfl rfl)
theorem dX8_hear_31 : decode cX8_hear 31 = .ok (.aload_n 0, 1) := dk_42 (dk_at dksX8_hear_1 7 rfl rfl)
theorem dX8_hear_32 : decode cX8_hear 32 = .ok (.getfield 55, 3) := dk_180 0 55 (dk_at dksX8_hear_1 8 rfl rfl)
theorem dX8_hear_35 : decode cX8_hear 35 = .ok (.bipush 9, 2) := dk_16 9 (dk_at dksX8_hear_1 11 rfl rfl)
theorem dX8_hear_37 : decode cX8_hear 37 = .ok (.iload 4, 2) := dk_21 4 (dk_at dksX8_hear_1 13 rfl rfl)
theorem dX8_hear_39 : decode cX8_hear 39 = .ok (.imul, 1) := dk_104 (dk_at dksX8_hear_1 15 rfl rfl)
theorem dX8_hear_40 : decode cX8_hear 40 = .ok (.iload_n 2, 1) := dk_28 (dk_at dksX8_hear_1 16 rfl rfl)
theorem dX8_hear_41 : decode cX8_hear 41 = .ok (.iadd, 1) := dk_96 (dk_at dksX8_hear_1 17 rfl rfl)
theorem dX8_hear_42 : decode cX8_hear 42 = .ok (.iaload, 1) := dk_46 (dk_at dksX8_hear_1 18 rfl rfl)
theorem dX8_hear_43 : decode cX8_hear 43 = .ok (.iconst (-1), 1) := dk_2 (dk_at dksX8_hear_1 19 rfl rfl)
theorem dX8_hear_44 : decode cX8_hear 44 = .ok (.if_icmp .eq 57, 3) := dk_159 0 57 (dk_at dksX8_hear_1 20 rfl rfl)
theorem dX8_hear_47 : decode cX8_hear 47 = .ok (.aload_n 0, 1) := dk_42 (dk_at dksX8_hear_1 23 rfl rfl)
theorem dX8_hear_48 : decode cX8_hear 48 = .ok (.getfield 106, 3) := dk_180 0 106 (dk_at dksX8_hear_2 0 rfl rfl)
theorem dX8_hear_51 : decode cX8_hear 51 = .ok (.iload 5, 2) := dk_21 5 (dk_at dksX8_hear_2 3 rfl rfl)
theorem dX8_hear_53 : decode cX8_hear 53 = .ok (.iaload, 1) := dk_46 (dk_at dksX8_hear_2 5 rfl rfl)
theorem dX8_hear_54 : decode cX8_hear 54 = .ok (.iconst (-1), 1) := dk_2 (dk_at dksX8_hear_2 6 rfl rfl)
theorem dX8_hear_55 : decode cX8_hear 55 = .ok (.if_icmp .eq 6, 3) := dk_159 0 6 (dk_at dksX8_hear_2 7 rfl rfl)
theorem dX8_hear_58 : decode cX8_hear 58 = .ok (.goto 43, 3) := dk_167 0 43 (dk_at dksX8_hear_2 10 rfl rfl)
theorem dX8_hear_61 : decode cX8_hear 61 = .ok (.aload_n 0, 1) := dk_42 (dk_at dksX8_hear_2 13 rfl rfl)
theorem dX8_hear_62 : decode cX8_hear 62 = .ok (.getfield 106, 3) := dk_180 0 106 (dk_at dksX8_hear_2 14 rfl rfl)
theorem dX8_hear_65 : decode cX8_hear 65 = .ok (.iload 5, 2) := dk_21 5 (dk_at dksX8_hear_2 17 rfl rfl)
theorem dX8_hear_67 : decode cX8_hear 67 = .ok (.aload_n 0, 1) := dk_42 (dk_at dksX8_hear_2 19 rfl rfl)
theorem dX8_hear_68 : decode cX8_hear 68 = .ok (.iload 4, 2) := dk_21 4 (dk_at dksX8_hear_2 20 rfl rfl)
theorem dX8_hear_70 : decode cX8_hear 70 = .ok (.iload_n 1, 1) := dk_27 (dk_at dksX8_hear_2 22 rfl rfl)
theorem dX8_hear_71 : decode cX8_hear 71 = .ok (.iload_n 2, 1) := dk_28 (dk_at dksX8_hear_2 23 rfl rfl)
theorem dX8_hear_72 : decode cX8_hear 72 = .ok (.iload_n 3, 1) := dk_29 (dk_at dksX8_hear_3 0 rfl rfl)
theorem dX8_hear_73 : decode cX8_hear 73 = .ok (.invokevirtual 362, 3) := dk_182 1 106 (dk_at dksX8_hear_3 1 rfl rfl)
theorem dX8_hear_76 : decode cX8_hear 76 = .ok (.ifCond .eq 7, 3) := dk_153 0 7 (dk_at dksX8_hear_3 4 rfl rfl)
theorem dX8_hear_79 : decode cX8_hear 79 = .ok (.iconst 1, 1) := dk_4 (dk_at dksX8_hear_3 7 rfl rfl)
theorem dX8_hear_80 : decode cX8_hear 80 = .ok (.goto 4, 3) := dk_167 0 4 (dk_at dksX8_hear_3 8 rfl rfl)
theorem dX8_hear_83 : decode cX8_hear 83 = .ok (.iconst 0, 1) := dk_3 (dk_at dksX8_hear_3 11 rfl rfl)
theorem dX8_hear_84 : decode cX8_hear 84 = .ok (.iastore, 1) := dk_79 (dk_at dksX8_hear_3 12 rfl rfl)
theorem dX8_hear_85 : decode cX8_hear 85 = .ok (.aload_n 0, 1) := dk_42 (dk_at dksX8_hear_3 13 rfl rfl)
theorem dX8_hear_86 : decode cX8_hear 86 = .ok (.getfield 108, 3) := dk_180 0 108 (dk_at dksX8_hear_3 14 rfl rfl)
theorem dX8_hear_89 : decode cX8_hear 89 = .ok (.iload 5, 2) := dk_21 5 (dk_at dksX8_hear_3 17 rfl rfl)
theorem dX8_hear_91 : decode cX8_hear 91 = .ok (.iload_n 3, 1) := dk_29 (dk_at dksX8_hear_3 19 rfl rfl)
theorem dX8_hear_92 : decode cX8_hear 92 = .ok (.iastore, 1) := dk_79 (dk_at dksX8_hear_3 20 rfl rfl)
theorem dX8_hear_93 : decode cX8_hear 93 = .ok (.aload_n 0, 1) := dk_42 (dk_at dksX8_hear_3 21 rfl rfl)
theorem dX8_hear_94 : decode cX8_hear 94 = .ok (.getfield 111, 3) := dk_180 0 111 (dk_at dksX8_hear_4 0 rfl rfl)
theorem dX8_hear_97 : decode cX8_hear 97 = .ok (.iload 5, 2) := dk_21 5 (dk_at dksX8_hear_4 3 rfl rfl)
theorem dX8_hear_99 : decode cX8_hear 99 = .ok (.iload_n 2, 1) := dk_28 (dk_at dksX8_hear_4 5 rfl rfl)
theorem dX8_hear_100 : decode cX8_hear 100 = .ok (.iastore, 1) := dk_79 (dk_at dksX8_hear_4 6 rfl rfl)
theorem dX8_hear_101 : decode cX8_hear 101 = .ok (.iinc 4 1, 3) := dk_132 4 1 (dk_at dksX8_hear_4 7 rfl rfl)
theorem dX8_hear_104 : decode cX8_hear 104 = .ok (.goto (-101), 3) := dk_167 255 155 (dk_at dksX8_hear_4 10 rfl rfl)
theorem dX8_hear_107 : decode cX8_hear 107 = .ok (.return_, 1) := dk_177 (dk_at dksX8_hear_4 13 rfl rfl)
abbrev cX8_isFeast : ByteArray := prog_20_method_51_code
def yX8_isFeast : MethodName := ⟨RX8, "isFeast", "(II)Z"⟩
def dkwX8_isFeast_2 : List UInt8 := [163, 0, 5, 4, 172, 132, 3, 1, 167, 255, 203, 3, 172]
abbrev dktX8_isFeast_2 : List UInt8 := dkwX8_isFeast_2 ++ []
def dkwX8_isFeast_1 : List UInt8 := [180, 0, 76, 6, 29, 104, 4, 96, 46, 161, 0, 19, 28, 42, 180, 0, 76, 6, 29, 104, 5, 96, 46]
abbrev dktX8_isFeast_1 : List UInt8 := dkwX8_isFeast_1 ++ dktX8_isFeast_2
def dkwX8_isFeast_0 : List UInt8 := [3, 62, 29, 42, 180, 1, 61, 162, 0, 51, 42, 180, 0, 76, 6, 29, 104, 46, 27, 160, 0, 33, 28, 42]
abbrev dktX8_isFeast_0 : List UInt8 := dkwX8_isFeast_0 ++ dktX8_isFeast_1
theorem dksX8_isFeast_0 : cX8_isFeast.data.toList.drop 0 = dktX8_isFeast_0 := by decide +kernel
theorem dksX8_isFeast_1 : cX8_isFeast.data.toList.drop 24 = dktX8_isFeast_1 := dk_seg dksX8_isFeast_0 24 rfl rfl
theorem dksX8_isFeast_2 : cX8_isFeast.data.toList.drop 47 = dktX8_isFeast_2 := dk_seg dksX8_isFeast_1 23 rfl rfl
theorem dX8_isFeast_0 : decode cX8_isFeast 0 = .ok (.iconst 0, 1) := dk_3 (dk_at dksX8_isFeast_0 0 rfl rfl)
theorem dX8_isFeast_1 : decode cX8_isFeast 1 = .ok (.istore_n 3, 1) := dk_62 (dk_at dksX8_isFeast_0 1 rfl rfl)
theorem dX8_isFeast_2 : decode cX8_isFeast 2 = .ok (.iload_n 3, 1) := dk_29 (dk_at dksX8_isFeast_0 2 rfl rfl)
theorem dX8_isFeast_3 : decode cX8_isFeast 3 = .ok (.aload_n 0, 1) := dk_42 (dk_at dksX8_isFeast_0 3 rfl rfl)
theorem dX8_isFeast_4 : decode cX8_isFeast 4 = .ok (.getfield 317, 3) := dk_180 1 61 (dk_at dksX8_isFeast_0 4 rfl rfl)
theorem dX8_isFeast_7 : decode cX8_isFeast 7 = .ok (.if_icmp .ge 51, 3) := dk_162 0 51 (dk_at dksX8_isFeast_0 7 rfl rfl)
theorem dX8_isFeast_10 : decode cX8_isFeast 10 = .ok (.aload_n 0, 1) := dk_42 (dk_at dksX8_isFeast_0 10 rfl rfl)
theorem dX8_isFeast_11 : decode cX8_isFeast 11 = .ok (.getfield 76, 3) := dk_180 0 76 (dk_at dksX8_isFeast_0 11 rfl rfl)
theorem dX8_isFeast_14 : decode cX8_isFeast 14 = .ok (.iconst 3, 1) := dk_6 (dk_at dksX8_isFeast_0 14 rfl rfl)
theorem dX8_isFeast_15 : decode cX8_isFeast 15 = .ok (.iload_n 3, 1) := dk_29 (dk_at dksX8_isFeast_0 15 rfl rfl)
theorem dX8_isFeast_16 : decode cX8_isFeast 16 = .ok (.imul, 1) := dk_104 (dk_at dksX8_isFeast_0 16 rfl rfl)
theorem dX8_isFeast_17 : decode cX8_isFeast 17 = .ok (.iaload, 1) := dk_46 (dk_at dksX8_isFeast_0 17 rfl rfl)
theorem dX8_isFeast_18 : decode cX8_isFeast 18 = .ok (.iload_n 1, 1) := dk_27 (dk_at dksX8_isFeast_0 18 rfl rfl)
theorem dX8_isFeast_19 : decode cX8_isFeast 19 = .ok (.if_icmp .ne 33, 3) := dk_160 0 33 (dk_at dksX8_isFeast_0 19 rfl rfl)
theorem dX8_isFeast_22 : decode cX8_isFeast 22 = .ok (.iload_n 2, 1) := dk_28 (dk_at dksX8_isFeast_0 22 rfl rfl)
theorem dX8_isFeast_23 : decode cX8_isFeast 23 = .ok (.aload_n 0, 1) := dk_42 (dk_at dksX8_isFeast_0 23 rfl rfl)
theorem dX8_isFeast_24 : decode cX8_isFeast 24 = .ok (.getfield 76, 3) := dk_180 0 76 (dk_at dksX8_isFeast_1 0 rfl rfl)
theorem dX8_isFeast_27 : decode cX8_isFeast 27 = .ok (.iconst 3, 1) := dk_6 (dk_at dksX8_isFeast_1 3 rfl rfl)
theorem dX8_isFeast_28 : decode cX8_isFeast 28 = .ok (.iload_n 3, 1) := dk_29 (dk_at dksX8_isFeast_1 4 rfl rfl)
theorem dX8_isFeast_29 : decode cX8_isFeast 29 = .ok (.imul, 1) := dk_104 (dk_at dksX8_isFeast_1 5 rfl rfl)
theorem dX8_isFeast_30 : decode cX8_isFeast 30 = .ok (.iconst 1, 1) := dk_4 (dk_at dksX8_isFeast_1 6 rfl rfl)
theorem dX8_isFeast_31 : decode cX8_isFeast 31 = .ok (.iadd, 1) := dk_96 (dk_at dksX8_isFeast_1 7 rfl rfl)
theorem dX8_isFeast_32 : decode cX8_isFeast 32 = .ok (.iaload, 1) := dk_46 (dk_at dksX8_isFeast_1 8 rfl rfl)
theorem dX8_isFeast_33 : decode cX8_isFeast 33 = .ok (.if_icmp .lt 19, 3) := dk_161 0 19 (dk_at dksX8_isFeast_1 9 rfl rfl)
theorem dX8_isFeast_36 : decode cX8_isFeast 36 = .ok (.iload_n 2, 1) := dk_28 (dk_at dksX8_isFeast_1 12 rfl rfl)
theorem dX8_isFeast_37 : decode cX8_isFeast 37 = .ok (.aload_n 0, 1) := dk_42 (dk_at dksX8_isFeast_1 13 rfl rfl)
theorem dX8_isFeast_38 : decode cX8_isFeast 38 = .ok (.getfield 76, 3) := dk_180 0 76 (dk_at dksX8_isFeast_1 14 rfl rfl)
theorem dX8_isFeast_41 : decode cX8_isFeast 41 = .ok (.iconst 3, 1) := dk_6 (dk_at dksX8_isFeast_1 17 rfl rfl)
theorem dX8_isFeast_42 : decode cX8_isFeast 42 = .ok (.iload_n 3, 1) := dk_29 (dk_at dksX8_isFeast_1 18 rfl rfl)
theorem dX8_isFeast_43 : decode cX8_isFeast 43 = .ok (.imul, 1) := dk_104 (dk_at dksX8_isFeast_1 19 rfl rfl)
theorem dX8_isFeast_44 : decode cX8_isFeast 44 = .ok (.iconst 2, 1) := dk_5 (dk_at dksX8_isFeast_1 20 rfl rfl)
theorem dX8_isFeast_45 : decode cX8_isFeast 45 = .ok (.iadd, 1) := dk_96 (dk_at dksX8_isFeast_1 21 rfl rfl)
theorem dX8_isFeast_46 : decode cX8_isFeast 46 = .ok (.iaload, 1) := dk_46 (dk_at dksX8_isFeast_1 22 rfl rfl)
theorem dX8_isFeast_47 : decode cX8_isFeast 47 = .ok (.if_icmp .gt 5, 3) := dk_163 0 5 (dk_at dksX8_isFeast_2 0 rfl rfl)
theorem dX8_isFeast_50 : decode cX8_isFeast 50 = .ok (.iconst 1, 1) := dk_4 (dk_at dksX8_isFeast_2 3 rfl rfl)
theorem dX8_isFeast_51 : decode cX8_isFeast 51 = .ok (.ireturn, 1) := dk_172 (dk_at dksX8_isFeast_2 4 rfl rfl)
theorem dX8_isFeast_52 : decode cX8_isFeast 52 = .ok (.iinc 3 1, 3) := dk_132 3 1 (dk_at dksX8_isFeast_2 5 rfl rfl)
theorem dX8_isFeast_55 : decode cX8_isFeast 55 = .ok (.goto (-53), 3) := dk_167 255 203 (dk_at dksX8_isFeast_2 8 rfl rfl)
theorem dX8_isFeast_58 : decode cX8_isFeast 58 = .ok (.iconst 0, 1) := dk_3 (dk_at dksX8_isFeast_2 11 rfl rfl)
theorem dX8_isFeast_59 : decode cX8_isFeast 59 = .ok (.ireturn, 1) := dk_172 (dk_at dksX8_isFeast_2 12 rfl rfl)
abbrev cX8_holds : ByteArray := prog_20_method_53_code
def yX8_holds : MethodName := ⟨RX8, "holds", "(IIII)Z"⟩
def dkwX8_holds_5 : List UInt8 := [167, 0, 4, 3, 172]
abbrev dktX8_holds_5 : List UInt8 := dkwX8_holds_5 ++ []
def dkwX8_holds_4 : List UInt8 := [54, 6, 21, 6, 42, 180, 0, 41, 28, 46, 5, 160, 0, 7, 4, 167, 0, 4, 3, 159, 0, 7, 4]
abbrev dktX8_holds_4 : List UInt8 := dkwX8_holds_4 ++ dktX8_holds_5
def dkwX8_holds_3 : List UInt8 := [180, 0, 85, 7, 42, 27, 21, 4, 182, 1, 97, 79, 42, 182, 1, 100, 158, 0, 7, 4, 167, 0, 4, 3]
abbrev dktX8_holds_3 : List UInt8 := dkwX8_holds_3 ++ dktX8_holds_4
def dkwX8_holds_2 : List UInt8 := [4, 42, 180, 0, 47, 28, 46, 79, 42, 180, 0, 85, 5, 21, 4, 79, 42, 180, 0, 85, 6, 29, 79, 42]
abbrev dktX8_holds_2 : List UInt8 := dkwX8_holds_2 ++ dktX8_holds_3
def dkwX8_holds_1 : List UInt8 := [54, 6, 42, 180, 0, 34, 16, 6, 46, 158, 0, 65, 42, 180, 0, 85, 3, 21, 5, 79, 42, 180, 0, 85]
abbrev dktX8_holds_1 : List UInt8 := dkwX8_holds_1 ++ dktX8_holds_2
def dkwX8_holds_0 : List UInt8 := [42, 180, 0, 55, 16, 9, 27, 104, 29, 96, 46, 54, 5, 21, 5, 7, 164, 0, 7, 4, 167, 0, 4, 3]
abbrev dktX8_holds_0 : List UInt8 := dkwX8_holds_0 ++ dktX8_holds_1
theorem dksX8_holds_0 : cX8_holds.data.toList.drop 0 = dktX8_holds_0 := by decide +kernel
theorem dksX8_holds_1 : cX8_holds.data.toList.drop 24 = dktX8_holds_1 := dk_seg dksX8_holds_0 24 rfl rfl
theorem dksX8_holds_2 : cX8_holds.data.toList.drop 48 = dktX8_holds_2 := dk_seg dksX8_holds_1 24 rfl rfl
theorem dksX8_holds_3 : cX8_holds.data.toList.drop 72 = dktX8_holds_3 := dk_seg dksX8_holds_2 24 rfl rfl
theorem dksX8_holds_4 : cX8_holds.data.toList.drop 96 = dktX8_holds_4 := dk_seg dksX8_holds_3 24 rfl rfl
theorem dksX8_holds_5 : cX8_holds.data.toList.drop 119 = dktX8_holds_5 := dk_seg dksX8_holds_4 23 rfl rfl
theorem dX8_holds_0 : decode cX8_holds 0 = .ok (.aload_n 0, 1) := dk_42 (dk_at dksX8_holds_0 0 rfl rfl)
theorem dX8_holds_1 : decode cX8_holds 1 = .ok (.getfield 55, 3) := dk_180 0 55 (dk_at dksX8_holds_0 1 rfl rfl)
theorem dX8_holds_4 : decode cX8_holds 4 = .ok (.bipush 9, 2) := dk_16 9 (dk_at dksX8_holds_0 4 rfl rfl)
theorem dX8_holds_6 : decode cX8_holds 6 = .ok (.iload_n 1, 1) := dk_27 (dk_at dksX8_holds_0 6 rfl rfl)
theorem dX8_holds_7 : decode cX8_holds 7 = .ok (.imul, 1) := dk_104 (dk_at dksX8_holds_0 7 rfl rfl)
theorem dX8_holds_8 : decode cX8_holds 8 = .ok (.iload_n 3, 1) := dk_29 (dk_at dksX8_holds_0 8 rfl rfl)
theorem dX8_holds_9 : decode cX8_holds 9 = .ok (.iadd, 1) := dk_96 (dk_at dksX8_holds_0 9 rfl rfl)
theorem dX8_holds_10 : decode cX8_holds 10 = .ok (.iaload, 1) := dk_46 (dk_at dksX8_holds_0 10 rfl rfl)
theorem dX8_holds_11 : decode cX8_holds 11 = .ok (.istore 5, 2) := dk_54 5 (dk_at dksX8_holds_0 11 rfl rfl)
theorem dX8_holds_13 : decode cX8_holds 13 = .ok (.iload 5, 2) := dk_21 5 (dk_at dksX8_holds_0 13 rfl rfl)
theorem dX8_holds_15 : decode cX8_holds 15 = .ok (.iconst 4, 1) := dk_7 (dk_at dksX8_holds_0 15 rfl rfl)
theorem dX8_holds_16 : decode cX8_holds 16 = .ok (.if_icmp .le 7, 3) := dk_164 0 7 (dk_at dksX8_holds_0 16 rfl rfl)
theorem dX8_holds_19 : decode cX8_holds 19 = .ok (.iconst 1, 1) := dk_4 (dk_at dksX8_holds_0 19 rfl rfl)
theorem dX8_holds_20 : decode cX8_holds 20 = .ok (.goto 4, 3) := dk_167 0 4 (dk_at dksX8_holds_0 20 rfl rfl)
theorem dX8_holds_23 : decode cX8_holds 23 = .ok (.iconst 0, 1) := dk_3 (dk_at dksX8_holds_0 23 rfl rfl)
theorem dX8_holds_24 : decode cX8_holds 24 = .ok (.istore 6, 2) := dk_54 6 (dk_at dksX8_holds_1 0 rfl rfl)
theorem dX8_holds_26 : decode cX8_holds 26 = .ok (.aload_n 0, 1) := dk_42 (dk_at dksX8_holds_1 2 rfl rfl)
theorem dX8_holds_27 : decode cX8_holds 27 = .ok (.getfield 34, 3) := dk_180 0 34 (dk_at dksX8_holds_1 3 rfl rfl)
theorem dX8_holds_30 : decode cX8_holds 30 = .ok (.bipush 6, 2) := dk_16 6 (dk_at dksX8_holds_1 6 rfl rfl)
theorem dX8_holds_32 : decode cX8_holds 32 = .ok (.iaload, 1) := dk_46 (dk_at dksX8_holds_1 8 rfl rfl)
theorem dX8_holds_33 : decode cX8_holds 33 = .ok (.ifCond .le 65, 3) := dk_158 0 65 (dk_at dksX8_holds_1 9 rfl rfl)
theorem dX8_holds_36 : decode cX8_holds 36 = .ok (.aload_n 0, 1) := dk_42 (dk_at dksX8_holds_1 12 rfl rfl)
theorem dX8_holds_37 : decode cX8_holds 37 = .ok (.getfield 85, 3) := dk_180 0 85 (dk_at dksX8_holds_1 13 rfl rfl)
theorem dX8_holds_40 : decode cX8_holds 40 = .ok (.iconst 0, 1) := dk_3 (dk_at dksX8_holds_1 16 rfl rfl)
theorem dX8_holds_41 : decode cX8_holds 41 = .ok (.iload 5, 2) := dk_21 5 (dk_at dksX8_holds_1 17 rfl rfl)
theorem dX8_holds_43 : decode cX8_holds 43 = .ok (.iastore, 1) := dk_79 (dk_at dksX8_holds_1 19 rfl rfl)
theorem dX8_holds_44 : decode cX8_holds 44 = .ok (.aload_n 0, 1) := dk_42 (dk_at dksX8_holds_1 20 rfl rfl)
theorem dX8_holds_45 : decode cX8_holds 45 = .ok (.getfield 85, 3) := dk_180 0 85 (dk_at dksX8_holds_1 21 rfl rfl)
theorem dX8_holds_48 : decode cX8_holds 48 = .ok (.iconst 1, 1) := dk_4 (dk_at dksX8_holds_2 0 rfl rfl)
theorem dX8_holds_49 : decode cX8_holds 49 = .ok (.aload_n 0, 1) := dk_42 (dk_at dksX8_holds_2 1 rfl rfl)
theorem dX8_holds_50 : decode cX8_holds 50 = .ok (.getfield 47, 3) := dk_180 0 47 (dk_at dksX8_holds_2 2 rfl rfl)
theorem dX8_holds_53 : decode cX8_holds 53 = .ok (.iload_n 2, 1) := dk_28 (dk_at dksX8_holds_2 5 rfl rfl)
theorem dX8_holds_54 : decode cX8_holds 54 = .ok (.iaload, 1) := dk_46 (dk_at dksX8_holds_2 6 rfl rfl)
theorem dX8_holds_55 : decode cX8_holds 55 = .ok (.iastore, 1) := dk_79 (dk_at dksX8_holds_2 7 rfl rfl)
theorem dX8_holds_56 : decode cX8_holds 56 = .ok (.aload_n 0, 1) := dk_42 (dk_at dksX8_holds_2 8 rfl rfl)
theorem dX8_holds_57 : decode cX8_holds 57 = .ok (.getfield 85, 3) := dk_180 0 85 (dk_at dksX8_holds_2 9 rfl rfl)
theorem dX8_holds_60 : decode cX8_holds 60 = .ok (.iconst 2, 1) := dk_5 (dk_at dksX8_holds_2 12 rfl rfl)
theorem dX8_holds_61 : decode cX8_holds 61 = .ok (.iload 4, 2) := dk_21 4 (dk_at dksX8_holds_2 13 rfl rfl)
theorem dX8_holds_63 : decode cX8_holds 63 = .ok (.iastore, 1) := dk_79 (dk_at dksX8_holds_2 15 rfl rfl)
theorem dX8_holds_64 : decode cX8_holds 64 = .ok (.aload_n 0, 1) := dk_42 (dk_at dksX8_holds_2 16 rfl rfl)
theorem dX8_holds_65 : decode cX8_holds 65 = .ok (.getfield 85, 3) := dk_180 0 85 (dk_at dksX8_holds_2 17 rfl rfl)
theorem dX8_holds_68 : decode cX8_holds 68 = .ok (.iconst 3, 1) := dk_6 (dk_at dksX8_holds_2 20 rfl rfl)
theorem dX8_holds_69 : decode cX8_holds 69 = .ok (.iload_n 3, 1) := dk_29 (dk_at dksX8_holds_2 21 rfl rfl)
theorem dX8_holds_70 : decode cX8_holds 70 = .ok (.iastore, 1) := dk_79 (dk_at dksX8_holds_2 22 rfl rfl)
theorem dX8_holds_71 : decode cX8_holds 71 = .ok (.aload_n 0, 1) := dk_42 (dk_at dksX8_holds_2 23 rfl rfl)
theorem dX8_holds_72 : decode cX8_holds 72 = .ok (.getfield 85, 3) := dk_180 0 85 (dk_at dksX8_holds_3 0 rfl rfl)
theorem dX8_holds_75 : decode cX8_holds 75 = .ok (.iconst 4, 1) := dk_7 (dk_at dksX8_holds_3 3 rfl rfl)
theorem dX8_holds_76 : decode cX8_holds 76 = .ok (.aload_n 0, 1) := dk_42 (dk_at dksX8_holds_3 4 rfl rfl)
theorem dX8_holds_77 : decode cX8_holds 77 = .ok (.iload_n 1, 1) := dk_27 (dk_at dksX8_holds_3 5 rfl rfl)
theorem dX8_holds_78 : decode cX8_holds 78 = .ok (.iload 4, 2) := dk_21 4 (dk_at dksX8_holds_3 6 rfl rfl)
theorem dX8_holds_80 : decode cX8_holds 80 = .ok (.invokevirtual 353, 3) := dk_182 1 97 (dk_at dksX8_holds_3 8 rfl rfl)
theorem dX8_holds_83 : decode cX8_holds 83 = .ok (.iastore, 1) := dk_79 (dk_at dksX8_holds_3 11 rfl rfl)
theorem dX8_holds_84 : decode cX8_holds 84 = .ok (.aload_n 0, 1) := dk_42 (dk_at dksX8_holds_3 12 rfl rfl)
theorem dX8_holds_85 : decode cX8_holds 85 = .ok (.invokevirtual 356, 3) := dk_182 1 100 (dk_at dksX8_holds_3 13 rfl rfl)
theorem dX8_holds_88 : decode cX8_holds 88 = .ok (.ifCond .le 7, 3) := dk_158 0 7 (dk_at dksX8_holds_3 16 rfl rfl)
theorem dX8_holds_91 : decode cX8_holds 91 = .ok (.iconst 1, 1) := dk_4 (dk_at dksX8_holds_3 19 rfl rfl)
theorem dX8_holds_92 : decode cX8_holds 92 = .ok (.goto 4, 3) := dk_167 0 4 (dk_at dksX8_holds_3 20 rfl rfl)
theorem dX8_holds_95 : decode cX8_holds 95 = .ok (.iconst 0, 1) := dk_3 (dk_at dksX8_holds_3 23 rfl rfl)
theorem dX8_holds_96 : decode cX8_holds 96 = .ok (.istore 6, 2) := dk_54 6 (dk_at dksX8_holds_4 0 rfl rfl)
theorem dX8_holds_98 : decode cX8_holds 98 = .ok (.iload 6, 2) := dk_21 6 (dk_at dksX8_holds_4 2 rfl rfl)
theorem dX8_holds_100 : decode cX8_holds 100 = .ok (.aload_n 0, 1) := dk_42 (dk_at dksX8_holds_4 4 rfl rfl)
theorem dX8_holds_101 : decode cX8_holds 101 = .ok (.getfield 41, 3) := dk_180 0 41 (dk_at dksX8_holds_4 5 rfl rfl)
theorem dX8_holds_104 : decode cX8_holds 104 = .ok (.iload_n 2, 1) := dk_28 (dk_at dksX8_holds_4 8 rfl rfl)
theorem dX8_holds_105 : decode cX8_holds 105 = .ok (.iaload, 1) := dk_46 (dk_at dksX8_holds_4 9 rfl rfl)
theorem dX8_holds_106 : decode cX8_holds 106 = .ok (.iconst 2, 1) := dk_5 (dk_at dksX8_holds_4 10 rfl rfl)
theorem dX8_holds_107 : decode cX8_holds 107 = .ok (.if_icmp .ne 7, 3) := dk_160 0 7 (dk_at dksX8_holds_4 11 rfl rfl)
theorem dX8_holds_110 : decode cX8_holds 110 = .ok (.iconst 1, 1) := dk_4 (dk_at dksX8_holds_4 14 rfl rfl)
theorem dX8_holds_111 : decode cX8_holds 111 = .ok (.goto 4, 3) := dk_167 0 4 (dk_at dksX8_holds_4 15 rfl rfl)
theorem dX8_holds_114 : decode cX8_holds 114 = .ok (.iconst 0, 1) := dk_3 (dk_at dksX8_holds_4 18 rfl rfl)
theorem dX8_holds_115 : decode cX8_holds 115 = .ok (.if_icmp .eq 7, 3) := dk_159 0 7 (dk_at dksX8_holds_4 19 rfl rfl)
theorem dX8_holds_118 : decode cX8_holds 118 = .ok (.iconst 1, 1) := dk_4 (dk_at dksX8_holds_4 22 rfl rfl)
theorem dX8_holds_119 : decode cX8_holds 119 = .ok (.goto 4, 3) := dk_167 0 4 (dk_at dksX8_holds_5 0 rfl rfl)
theorem dX8_holds_122 : decode cX8_holds 122 = .ok (.iconst 0, 1) := dk_3 (dk_at dksX8_holds_5 3 rfl rfl)
theorem dX8_holds_123 : decode cX8_holds 123 = .ok (.ireturn, 1) := dk_172 (dk_at dksX8_holds_5 4 rfl rfl)
abbrev cX8_saidAhead : ByteArray := prog_20_method_52_code
def yX8_saidAhead : MethodName := ⟨RX8, "saidAhead", "(II)I"⟩
def dkwX8_saidAhead_2 : List UInt8 := [167, 0, 4, 3, 96, 62, 132, 4, 1, 167, 255, 204, 29, 172]
abbrev dktX8_saidAhead_2 : List UInt8 := dkwX8_saidAhead_2 ++ []
def dkwX8_saidAhead_1 : List UInt8 := [21, 4, 96, 46, 2, 159, 0, 22, 42, 180, 0, 108, 8, 27, 104, 21, 4, 96, 46, 28, 162, 0, 7, 4]
abbrev dktX8_saidAhead_1 : List UInt8 := dkwX8_saidAhead_1 ++ dktX8_saidAhead_2
def dkwX8_saidAhead_0 : List UInt8 := [3, 62, 3, 54, 4, 21, 4, 42, 180, 0, 34, 7, 46, 162, 0, 47, 29, 42, 180, 0, 106, 8, 27, 104]
abbrev dktX8_saidAhead_0 : List UInt8 := dkwX8_saidAhead_0 ++ dktX8_saidAhead_1
theorem dksX8_saidAhead_0 : cX8_saidAhead.data.toList.drop 0 = dktX8_saidAhead_0 := by decide +kernel
theorem dksX8_saidAhead_1 : cX8_saidAhead.data.toList.drop 24 = dktX8_saidAhead_1 := dk_seg dksX8_saidAhead_0 24 rfl rfl
theorem dksX8_saidAhead_2 : cX8_saidAhead.data.toList.drop 48 = dktX8_saidAhead_2 := dk_seg dksX8_saidAhead_1 24 rfl rfl
theorem dX8_saidAhead_0 : decode cX8_saidAhead 0 = .ok (.iconst 0, 1) := dk_3 (dk_at dksX8_saidAhead_0 0 rfl rfl)
theorem dX8_saidAhead_1 : decode cX8_saidAhead 1 = .ok (.istore_n 3, 1) := dk_62 (dk_at dksX8_saidAhead_0 1 rfl rfl)
theorem dX8_saidAhead_2 : decode cX8_saidAhead 2 = .ok (.iconst 0, 1) := dk_3 (dk_at dksX8_saidAhead_0 2 rfl rfl)
theorem dX8_saidAhead_3 : decode cX8_saidAhead 3 = .ok (.istore 4, 2) := dk_54 4 (dk_at dksX8_saidAhead_0 3 rfl rfl)
theorem dX8_saidAhead_5 : decode cX8_saidAhead 5 = .ok (.iload 4, 2) := dk_21 4 (dk_at dksX8_saidAhead_0 5 rfl rfl)
theorem dX8_saidAhead_7 : decode cX8_saidAhead 7 = .ok (.aload_n 0, 1) := dk_42 (dk_at dksX8_saidAhead_0 7 rfl rfl)
theorem dX8_saidAhead_8 : decode cX8_saidAhead 8 = .ok (.getfield 34, 3) := dk_180 0 34 (dk_at dksX8_saidAhead_0 8 rfl rfl)
theorem dX8_saidAhead_11 : decode cX8_saidAhead 11 = .ok (.iconst 4, 1) := dk_7 (dk_at dksX8_saidAhead_0 11 rfl rfl)
theorem dX8_saidAhead_12 : decode cX8_saidAhead 12 = .ok (.iaload, 1) := dk_46 (dk_at dksX8_saidAhead_0 12 rfl rfl)
theorem dX8_saidAhead_13 : decode cX8_saidAhead 13 = .ok (.if_icmp .ge 47, 3) := dk_162 0 47 (dk_at dksX8_saidAhead_0 13 rfl rfl)
theorem dX8_saidAhead_16 : decode cX8_saidAhead 16 = .ok (.iload_n 3, 1) := dk_29 (dk_at dksX8_saidAhead_0 16 rfl rfl)
theorem dX8_saidAhead_17 : decode cX8_saidAhead 17 = .ok (.aload_n 0, 1) := dk_42 (dk_at dksX8_saidAhead_0 17 rfl rfl)
theorem dX8_saidAhead_18 : decode cX8_saidAhead 18 = .ok (.getfield 106, 3) := dk_180 0 106 (dk_at dksX8_saidAhead_0 18 rfl rfl)
theorem dX8_saidAhead_21 : decode cX8_saidAhead 21 = .ok (.iconst 5, 1) := dk_8 (dk_at dksX8_saidAhead_0 21 rfl rfl)
theorem dX8_saidAhead_22 : decode cX8_saidAhead 22 = .ok (.iload_n 1, 1) := dk_27 (dk_at dksX8_saidAhead_0 22 rfl rfl)
theorem dX8_saidAhead_23 : decode cX8_saidAhead 23 = .ok (.imul, 1) := dk_104 (dk_at dksX8_saidAhead_0 23 rfl rfl)
theorem dX8_saidAhead_24 : decode cX8_saidAhead 24 = .ok (.iload 4, 2) := dk_21 4 (dk_at dksX8_saidAhead_1 0 rfl rfl)
theorem dX8_saidAhead_26 : decode cX8_saidAhead 26 = .ok (.iadd, 1) := dk_96 (dk_at dksX8_saidAhead_1 2 rfl rfl)
theorem dX8_saidAhead_27 : decode cX8_saidAhead 27 = .ok (.iaload, 1) := dk_46 (dk_at dksX8_saidAhead_1 3 rfl rfl)
theorem dX8_saidAhead_28 : decode cX8_saidAhead 28 = .ok (.iconst (-1), 1) := dk_2 (dk_at dksX8_saidAhead_1 4 rfl rfl)
theorem dX8_saidAhead_29 : decode cX8_saidAhead 29 = .ok (.if_icmp .eq 22, 3) := dk_159 0 22 (dk_at dksX8_saidAhead_1 5 rfl rfl)
theorem dX8_saidAhead_32 : decode cX8_saidAhead 32 = .ok (.aload_n 0, 1) := dk_42 (dk_at dksX8_saidAhead_1 8 rfl rfl)
theorem dX8_saidAhead_33 : decode cX8_saidAhead 33 = .ok (.getfield 108, 3) := dk_180 0 108 (dk_at dksX8_saidAhead_1 9 rfl rfl)
theorem dX8_saidAhead_36 : decode cX8_saidAhead 36 = .ok (.iconst 5, 1) := dk_8 (dk_at dksX8_saidAhead_1 12 rfl rfl)
theorem dX8_saidAhead_37 : decode cX8_saidAhead 37 = .ok (.iload_n 1, 1) := dk_27 (dk_at dksX8_saidAhead_1 13 rfl rfl)
theorem dX8_saidAhead_38 : decode cX8_saidAhead 38 = .ok (.imul, 1) := dk_104 (dk_at dksX8_saidAhead_1 14 rfl rfl)
theorem dX8_saidAhead_39 : decode cX8_saidAhead 39 = .ok (.iload 4, 2) := dk_21 4 (dk_at dksX8_saidAhead_1 15 rfl rfl)
theorem dX8_saidAhead_41 : decode cX8_saidAhead 41 = .ok (.iadd, 1) := dk_96 (dk_at dksX8_saidAhead_1 17 rfl rfl)
theorem dX8_saidAhead_42 : decode cX8_saidAhead 42 = .ok (.iaload, 1) := dk_46 (dk_at dksX8_saidAhead_1 18 rfl rfl)
theorem dX8_saidAhead_43 : decode cX8_saidAhead 43 = .ok (.iload_n 2, 1) := dk_28 (dk_at dksX8_saidAhead_1 19 rfl rfl)
theorem dX8_saidAhead_44 : decode cX8_saidAhead 44 = .ok (.if_icmp .ge 7, 3) := dk_162 0 7 (dk_at dksX8_saidAhead_1 20 rfl rfl)
theorem dX8_saidAhead_47 : decode cX8_saidAhead 47 = .ok (.iconst 1, 1) := dk_4 (dk_at dksX8_saidAhead_1 23 rfl rfl)
theorem dX8_saidAhead_48 : decode cX8_saidAhead 48 = .ok (.goto 4, 3) := dk_167 0 4 (dk_at dksX8_saidAhead_2 0 rfl rfl)
theorem dX8_saidAhead_51 : decode cX8_saidAhead 51 = .ok (.iconst 0, 1) := dk_3 (dk_at dksX8_saidAhead_2 3 rfl rfl)
theorem dX8_saidAhead_52 : decode cX8_saidAhead 52 = .ok (.iadd, 1) := dk_96 (dk_at dksX8_saidAhead_2 4 rfl rfl)
theorem dX8_saidAhead_53 : decode cX8_saidAhead 53 = .ok (.istore_n 3, 1) := dk_62 (dk_at dksX8_saidAhead_2 5 rfl rfl)
theorem dX8_saidAhead_54 : decode cX8_saidAhead 54 = .ok (.iinc 4 1, 3) := dk_132 4 1 (dk_at dksX8_saidAhead_2 6 rfl rfl)
theorem dX8_saidAhead_57 : decode cX8_saidAhead 57 = .ok (.goto (-52), 3) := dk_167 255 204 (dk_at dksX8_saidAhead_2 9 rfl rfl)
theorem dX8_saidAhead_60 : decode cX8_saidAhead 60 = .ok (.iload_n 3, 1) := dk_29 (dk_at dksX8_saidAhead_2 12 rfl rfl)
theorem dX8_saidAhead_61 : decode cX8_saidAhead 61 = .ok (.ireturn, 1) := dk_172 (dk_at dksX8_saidAhead_2 13 rfl rfl)
abbrev cX8_valueNow : ByteArray := prog_20_method_45_code
def yX8_valueNow : MethodName := ⟨RX8, "valueNow", "()I"⟩
def dkwX8_valueNow_5 : List UInt8 := [79, 132, 2, 1, 167, 255, 139, 42, 180, 0, 88, 3, 46, 172]
abbrev dktX8_valueNow_5 : List UInt8 := dkwX8_valueNow_5 ++ []
def dkwX8_valueNow_4 : List UInt8 := [180, 0, 88, 27, 4, 100, 29, 42, 180, 0, 88, 27, 4, 100, 46, 42, 180, 0, 88, 27, 46, 184, 1, 80]
abbrev dktX8_valueNow_4 : List UInt8 := dkwX8_valueNow_4 ++ dktX8_valueNow_5
def dkwX8_valueNow_3 : List UInt8 := [180, 0, 88, 27, 4, 100, 46, 153, 0, 7, 3, 167, 0, 4, 4, 79, 167, 0, 32, 132, 1, 255, 42]
abbrev dktX8_valueNow_3 : List UInt8 := dkwX8_valueNow_3 ++ dktX8_valueNow_4
def dkwX8_valueNow_2 : List UInt8 := [100, 46, 79, 132, 1, 1, 167, 0, 65, 29, 16, 228, 160, 0, 30, 42, 180, 0, 88, 27, 4, 100, 42]
abbrev dktX8_valueNow_2 : List UInt8 := dkwX8_valueNow_2 ++ dktX8_valueNow_3
def dkwX8_valueNow_1 : List UInt8 := [16, 236, 164, 0, 31, 42, 180, 0, 88, 27, 29, 155, 0, 7, 29, 167, 0, 11, 42, 180, 0, 85, 2, 29]
abbrev dktX8_valueNow_1 : List UInt8 := dkwX8_valueNow_1 ++ dktX8_valueNow_2
def dkwX8_valueNow_0 : List UInt8 := [3, 60, 3, 61, 28, 42, 180, 0, 34, 16, 6, 46, 162, 0, 112, 42, 180, 0, 57, 28, 46, 62, 29]
abbrev dktX8_valueNow_0 : List UInt8 := dkwX8_valueNow_0 ++ dktX8_valueNow_1
theorem dksX8_valueNow_0 : cX8_valueNow.data.toList.drop 0 = dktX8_valueNow_0 := by decide +kernel
theorem dksX8_valueNow_1 : cX8_valueNow.data.toList.drop 23 = dktX8_valueNow_1 := dk_seg dksX8_valueNow_0 23 rfl rfl
theorem dksX8_valueNow_2 : cX8_valueNow.data.toList.drop 47 = dktX8_valueNow_2 := dk_seg dksX8_valueNow_1 24 rfl rfl
theorem dksX8_valueNow_3 : cX8_valueNow.data.toList.drop 70 = dktX8_valueNow_3 := dk_seg dksX8_valueNow_2 23 rfl rfl
theorem dksX8_valueNow_4 : cX8_valueNow.data.toList.drop 93 = dktX8_valueNow_4 := dk_seg dksX8_valueNow_3 23 rfl rfl
theorem dksX8_valueNow_5 : cX8_valueNow.data.toList.drop 117 = dktX8_valueNow_5 := dk_seg dksX8_valueNow_4 24 rfl rfl
theorem dX8_valueNow_0 : decode cX8_valueNow 0 = .ok (.iconst 0, 1) := dk_3 (dk_at dksX8_valueNow_0 0 rfl rfl)
theorem dX8_valueNow_1 : decode cX8_valueNow 1 = .ok (.istore_n 1, 1) := dk_60 (dk_at dksX8_valueNow_0 1 rfl rfl)
theorem dX8_valueNow_2 : decode cX8_valueNow 2 = .ok (.iconst 0, 1) := dk_3 (dk_at dksX8_valueNow_0 2 rfl rfl)
theorem dX8_valueNow_3 : decode cX8_valueNow 3 = .ok (.istore_n 2, 1) := dk_61 (dk_at dksX8_valueNow_0 3 rfl rfl)
theorem dX8_valueNow_4 : decode cX8_valueNow 4 = .ok (.iload_n 2, 1) := dk_28 (dk_at dksX8_valueNow_0 4 rfl rfl)
theorem dX8_valueNow_5 : decode cX8_valueNow 5 = .ok (.aload_n 0, 1) := dk_42 (dk_at dksX8_valueNow_0 5 rfl rfl)
theorem dX8_valueNow_6 : decode cX8_valueNow 6 = .ok (.getfield 34, 3) := dk_180 0 34 (dk_at dksX8_valueNow_0 6 rfl rfl)
theorem dX8_valueNow_9 : decode cX8_valueNow 9 = .ok (.bipush 6, 2) := dk_16 6 (dk_at dksX8_valueNow_0 9 rfl rfl)
theorem dX8_valueNow_11 : decode cX8_valueNow 11 = .ok (.iaload, 1) := dk_46 (dk_at dksX8_valueNow_0 11 rfl rfl)
theorem dX8_valueNow_12 : decode cX8_valueNow 12 = .ok (.if_icmp .ge 112, 3) := dk_162 0 112 (dk_at dksX8_valueNow_0 12 rfl rfl)
theorem dX8_valueNow_15 : decode cX8_valueNow 15 = .ok (.aload_n 0, 1) := dk_42 (dk_at dksX8_valueNow_0 15 rfl rfl)
theorem dX8_valueNow_16 : decode cX8_valueNow 16 = .ok (.getfield 57, 3) := dk_180 0 57 (dk_at dksX8_valueNow_0 16 rfl rfl)
theorem dX8_valueNow_19 : decode cX8_valueNow 19 = .ok (.iload_n 2, 1) := dk_28 (dk_at dksX8_valueNow_0 19 rfl rfl)
theorem dX8_valueNow_20 : decode cX8_valueNow 20 = .ok (.iaload, 1) := dk_46 (dk_at dksX8_valueNow_0 20 rfl rfl)
theorem dX8_valueNow_21 : decode cX8_valueNow 21 = .ok (.istore_n 3, 1) := dk_62 (dk_at dksX8_valueNow_0 21 rfl rfl)
theorem dX8_valueNow_22 : decode cX8_valueNow 22 = .ok (.iload_n 3, 1) := dk_29 (dk_at dksX8_valueNow_0 22 rfl rfl)
theorem dX8_valueNow_23 : decode cX8_valueNow 23 = .ok (.bipush (-20), 2) := dk_16 236 (dk_at dksX8_valueNow_1 0 rfl rfl)
theorem dX8_valueNow_25 : decode cX8_valueNow 25 = .ok (.if_icmp .le 31, 3) := dk_164 0 31 (dk_at dksX8_valueNow_1 2 rfl rfl)
theorem dX8_valueNow_28 : decode cX8_valueNow 28 = .ok (.aload_n 0, 1) := dk_42 (dk_at dksX8_valueNow_1 5 rfl rfl)
theorem dX8_valueNow_29 : decode cX8_valueNow 29 = .ok (.getfield 88, 3) := dk_180 0 88 (dk_at dksX8_valueNow_1 6 rfl rfl)
theorem dX8_valueNow_32 : decode cX8_valueNow 32 = .ok (.iload_n 1, 1) := dk_27 (dk_at dksX8_valueNow_1 9 rfl rfl)
theorem dX8_valueNow_33 : decode cX8_valueNow 33 = .ok (.iload_n 3, 1) := dk_29 (dk_at dksX8_valueNow_1 10 rfl rfl)
theorem dX8_valueNow_34 : decode cX8_valueNow 34 = .ok (.ifCond .lt 7, 3) := dk_155 0 7 (dk_at dksX8_valueNow_1 11 rfl rfl)
theorem dX8_valueNow_37 : decode cX8_valueNow 37 = .ok (.iload_n 3, 1) := dk_29 (dk_at dksX8_valueNow_1 14 rfl rfl)
theorem dX8_valueNow_38 : decode cX8_valueNow 38 = .ok (.goto 11, 3) := dk_167 0 11 (dk_at dksX8_valueNow_1 15 rfl rfl)
theorem dX8_valueNow_41 : decode cX8_valueNow 41 = .ok (.aload_n 0, 1) := dk_42 (dk_at dksX8_valueNow_1 18 rfl rfl)
theorem dX8_valueNow_42 : decode cX8_valueNow 42 = .ok (.getfield 85, 3) := dk_180 0 85 (dk_at dksX8_valueNow_1 19 rfl rfl)
theorem dX8_valueNow_45 : decode cX8_valueNow 45 = .ok (.iconst (-1), 1) := dk_2 (dk_at dksX8_valueNow_1 22 rfl rfl)
theorem dX8_valueNow_46 : decode cX8_valueNow 46 = .ok (.iload_n 3, 1) := dk_29 (dk_at dksX8_valueNow_1 23 rfl rfl)
theorem dX8_valueNow_47 : decode cX8_valueNow 47 = .ok (.isub, 1) := dk_100 (dk_at dksX8_valueNow_2 0 rfl rfl)
theorem dX8_valueNow_48 : decode cX8_valueNow 48 = .ok (.iaload, 1) := dk_46 (dk_at dksX8_valueNow_2 1 rfl rfl)
theorem dX8_valueNow_49 : decode cX8_valueNow 49 = .ok (.iastore, 1) := dk_79 (dk_at dksX8_valueNow_2 2 rfl rfl)
theorem dX8_valueNow_50 : decode cX8_valueNow 50 = .ok (.iinc 1 1, 3) := dk_132 1 1 (dk_at dksX8_valueNow_2 3 rfl rfl)
theorem dX8_valueNow_53 : decode cX8_valueNow 53 = .ok (.goto 65, 3) := dk_167 0 65 (dk_at dksX8_valueNow_2 6 rfl rfl)
theorem dX8_valueNow_56 : decode cX8_valueNow 56 = .ok (.iload_n 3, 1) := dk_29 (dk_at dksX8_valueNow_2 9 rfl rfl)
theorem dX8_valueNow_57 : decode cX8_valueNow 57 = .ok (.bipush (-28), 2) := dk_16 228 (dk_at dksX8_valueNow_2 10 rfl rfl)
theorem dX8_valueNow_59 : decode cX8_valueNow 59 = .ok (.if_icmp .ne 30, 3) := dk_160 0 30 (dk_at dksX8_valueNow_2 12 rfl rfl)
theorem dX8_valueNow_62 : decode cX8_valueNow 62 = .ok (.aload_n 0, 1) := dk_42 (dk_at dksX8_valueNow_2 15 rfl rfl)
theorem dX8_valueNow_63 : decode cX8_valueNow 63 = .ok (.getfield 88, 3) := dk_180 0 88 (dk_at dksX8_valueNow_2 16 rfl rfl)
theorem dX8_valueNow_66 : decode cX8_valueNow 66 = .ok (.iload_n 1, 1) := dk_27 (dk_at dksX8_valueNow_2 19 rfl rfl)
theorem dX8_valueNow_67 : decode cX8_valueNow 67 = .ok (.iconst 1, 1) := dk_4 (dk_at dksX8_valueNow_2 20 rfl rfl)
theorem dX8_valueNow_68 : decode cX8_valueNow 68 = .ok (.isub, 1) := dk_100 (dk_at dksX8_valueNow_2 21 rfl rfl)
theorem dX8_valueNow_69 : decode cX8_valueNow 69 = .ok (.aload_n 0, 1) := dk_42 (dk_at dksX8_valueNow_2 22 rfl rfl)
theorem dX8_valueNow_70 : decode cX8_valueNow 70 = .ok (.getfield 88, 3) := dk_180 0 88 (dk_at dksX8_valueNow_3 0 rfl rfl)
theorem dX8_valueNow_73 : decode cX8_valueNow 73 = .ok (.iload_n 1, 1) := dk_27 (dk_at dksX8_valueNow_3 3 rfl rfl)
theorem dX8_valueNow_74 : decode cX8_valueNow 74 = .ok (.iconst 1, 1) := dk_4 (dk_at dksX8_valueNow_3 4 rfl rfl)
theorem dX8_valueNow_75 : decode cX8_valueNow 75 = .ok (.isub, 1) := dk_100 (dk_at dksX8_valueNow_3 5 rfl rfl)
theorem dX8_valueNow_76 : decode cX8_valueNow 76 = .ok (.iaload, 1) := dk_46 (dk_at dksX8_valueNow_3 6 rfl rfl)
theorem dX8_valueNow_77 : decode cX8_valueNow 77 = .ok (.ifCond .eq 7, 3) := dk_153 0 7 (dk_at dksX8_valueNow_3 7 rfl rfl)
theorem dX8_valueNow_80 : decode cX8_valueNow 80 = .ok (.iconst 0, 1) := dk_3 (dk_at dksX8_valueNow_3 10 rfl rfl)
theorem dX8_valueNow_81 : decode cX8_valueNow 81 = .ok (.goto 4, 3) := dk_167 0 4 (dk_at dksX8_valueNow_3 11 rfl rfl)
theorem dX8_valueNow_84 : decode cX8_valueNow 84 = .ok (.iconst 1, 1) := dk_4 (dk_at dksX8_valueNow_3 14 rfl rfl)
theorem dX8_valueNow_85 : decode cX8_valueNow 85 = .ok (.iastore, 1) := dk_79 (dk_at dksX8_valueNow_3 15 rfl rfl)
theorem dX8_valueNow_86 : decode cX8_valueNow 86 = .ok (.goto 32, 3) := dk_167 0 32 (dk_at dksX8_valueNow_3 16 rfl rfl)
theorem dX8_valueNow_89 : decode cX8_valueNow 89 = .ok (.iinc 1 (-1), 3) := dk_132 1 255 (dk_at dksX8_valueNow_3 19 rfl rfl)
theorem dX8_valueNow_92 : decode cX8_valueNow 92 = .ok (.aload_n 0, 1) := dk_42 (dk_at dksX8_valueNow_3 22 rfl rfl)
theorem dX8_valueNow_93 : decode cX8_valueNow 93 = .ok (.getfield 88, 3) := dk_180 0 88 (dk_at dksX8_valueNow_4 0 rfl rfl)
theorem dX8_valueNow_96 : decode cX8_valueNow 96 = .ok (.iload_n 1, 1) := dk_27 (dk_at dksX8_valueNow_4 3 rfl rfl)
theorem dX8_valueNow_97 : decode cX8_valueNow 97 = .ok (.iconst 1, 1) := dk_4 (dk_at dksX8_valueNow_4 4 rfl rfl)
theorem dX8_valueNow_98 : decode cX8_valueNow 98 = .ok (.isub, 1) := dk_100 (dk_at dksX8_valueNow_4 5 rfl rfl)
theorem dX8_valueNow_99 : decode cX8_valueNow 99 = .ok (.iload_n 3, 1) := dk_29 (dk_at dksX8_valueNow_4 6 rfl rfl)
theorem dX8_valueNow_100 : decode cX8_valueNow 100 = .ok (.aload_n 0, 1) := dk_42 (dk_at dksX8_valueNow_4 7 rfl rfl)
theorem dX8_valueNow_101 : decode cX8_valueNow 101 = .ok (.getfield 88, 3) := dk_180 0 88 (dk_at dksX8_valueNow_4 8 rfl rfl)
theorem dX8_valueNow_104 : decode cX8_valueNow 104 = .ok (.iload_n 1, 1) := dk_27 (dk_at dksX8_valueNow_4 11 rfl rfl)
theorem dX8_valueNow_105 : decode cX8_valueNow 105 = .ok (.iconst 1, 1) := dk_4 (dk_at dksX8_valueNow_4 12 rfl rfl)
theorem dX8_valueNow_106 : decode cX8_valueNow 106 = .ok (.isub, 1) := dk_100 (dk_at dksX8_valueNow_4 13 rfl rfl)
theorem dX8_valueNow_107 : decode cX8_valueNow 107 = .ok (.iaload, 1) := dk_46 (dk_at dksX8_valueNow_4 14 rfl rfl)
theorem dX8_valueNow_108 : decode cX8_valueNow 108 = .ok (.aload_n 0, 1) := dk_42 (dk_at dksX8_valueNow_4 15 rfl rfl)
theorem dX8_valueNow_109 : decode cX8_valueNow 109 = .ok (.getfield 88, 3) := dk_180 0 88 (dk_at dksX8_valueNow_4 16 rfl rfl)
theorem dX8_valueNow_112 : decode cX8_valueNow 112 = .ok (.iload_n 1, 1) := dk_27 (dk_at dksX8_valueNow_4 19 rfl rfl)
theorem dX8_valueNow_113 : decode cX8_valueNow 113 = .ok (.iaload, 1) := dk_46 (dk_at dksX8_valueNow_4 20 rfl rfl)
theorem dX8_valueNow_114 : decode cX8_valueNow 114 = .ok (.invokestatic 336, 3) := dk_184 1 80 (dk_at dksX8_valueNow_4 21 rfl rfl)
theorem dX8_valueNow_117 : decode cX8_valueNow 117 = .ok (.iastore, 1) := dk_79 (dk_at dksX8_valueNow_5 0 rfl rfl)
theorem dX8_valueNow_118 : decode cX8_valueNow 118 = .ok (.iinc 2 1, 3) := dk_132 2 1 (dk_at dksX8_valueNow_5 1 rfl rfl)
theorem dX8_valueNow_121 : decode cX8_valueNow 121 = .ok (.goto (-117), 3) := dk_167 255 139 (dk_at dksX8_valueNow_5 4 rfl rfl)
theorem dX8_valueNow_124 : decode cX8_valueNow 124 = .ok (.aload_n 0, 1) := dk_42 (dk_at dksX8_valueNow_5 7 rfl rfl)
theorem dX8_valueNow_125 : decode cX8_valueNow 125 = .ok (.getfield 88, 3) := dk_180 0 88 (dk_at dksX8_valueNow_5 8 rfl rfl)
theorem dX8_valueNow_128 : decode cX8_valueNow 128 = .ok (.iconst 0, 1) := dk_3 (dk_at dksX8_valueNow_5 11 rfl rfl)
theorem dX8_valueNow_129 : decode cX8_valueNow 129 = .ok (.iaload, 1) := dk_46 (dk_at dksX8_valueNow_5 12 rfl rfl)
theorem dX8_valueNow_130 : decode cX8_valueNow 130 = .ok (.ireturn, 1) := dk_172 (dk_at dksX8_valueNow_5 13 rfl rfl)
abbrev cX8_reckon : ByteArray := prog_20_method_44_code
def yX8_reckon : MethodName := ⟨RX8, "reckon", "(III)I"⟩
def dkwX8_reckon_5 : List UInt8 := [167, 0, 4, 3, 172]
abbrev dktX8_reckon_5 : List UInt8 := dkwX8_reckon_5 ++ []
def dkwX8_reckon_4 : List UInt8 := [153, 0, 11, 28, 153, 0, 7, 4, 167, 0, 4, 3, 172, 27, 154, 0, 7, 28, 153, 0, 7, 4]
abbrev dktX8_reckon_4 : List UInt8 := dkwX8_reckon_4 ++ dktX8_reckon_5
def dkwX8_reckon_3 : List UInt8 := [27, 28, 162, 0, 7, 4, 167, 0, 4, 3, 172, 27, 28, 160, 0, 7, 4, 167, 0, 4, 3, 172, 27]
abbrev dktX8_reckon_3 : List UInt8 := dkwX8_reckon_3 ++ dktX8_reckon_4
def dkwX8_reckon_2 : List UInt8 := [27, 28, 96, 172, 27, 28, 100, 172, 27, 28, 104, 172, 28, 154, 0, 7, 3, 167, 0, 6, 27, 28, 108, 172]
abbrev dktX8_reckon_2 : List UInt8 := dkwX8_reckon_2 ++ dktX8_reckon_3
def dkwX8_reckon_1 : List UInt8 := [170, 0, 0, 0, 0, 0, 103, 255, 255, 255, 230, 255, 255, 255, 236, 0, 0, 0, 89, 0, 0, 0, 78, 0, 0, 0, 67, 0, 0, 0, 55, 0, 0, 0, 51, 0, 0, 0, 47, 0, 0, 0, 43]
abbrev dktX8_reckon_1 : List UInt8 := dkwX8_reckon_1 ++ dktX8_reckon_2
def dkwX8_reckon_0 : List UInt8 := [26]
abbrev dktX8_reckon_0 : List UInt8 := dkwX8_reckon_0 ++ dktX8_reckon_1
theorem dksX8_reckon_0 : cX8_reckon.data.toList.drop 0 = dktX8_reckon_0 := by decide +kernel
theorem dksX8_reckon_1 : cX8_reckon.data.toList.drop 1 = dktX8_reckon_1 := dk_seg dksX8_reckon_0 1 rfl rfl
theorem dksX8_reckon_2 : cX8_reckon.data.toList.drop 44 = dktX8_reckon_2 := dk_seg dksX8_reckon_1 43 rfl rfl
theorem dksX8_reckon_3 : cX8_reckon.data.toList.drop 68 = dktX8_reckon_3 := dk_seg dksX8_reckon_2 24 rfl rfl
theorem dksX8_reckon_4 : cX8_reckon.data.toList.drop 91 = dktX8_reckon_4 := dk_seg dksX8_reckon_3 23 rfl rfl
theorem dksX8_reckon_5 : cX8_reckon.data.toList.drop 113 = dktX8_reckon_5 := dk_seg dksX8_reckon_4 22 rfl rfl
theorem dX8_reckon_0 : decode cX8_reckon 0 = .ok (.iload_n 0, 1) := dk_26 (dk_at dksX8_reckon_0 0 rfl rfl)
theorem dX8_reckon_1 : decode cX8_reckon 1 = .ok (.tableswitch 103 (-26) (-20) #[89, 78, 67, 55, 51, 47, 43], 43) := by decide +kernel
theorem dX8_reckon_44 : decode cX8_reckon 44 = .ok (.iload_n 1, 1) := dk_27 (dk_at dksX8_reckon_2 0 rfl rfl)
theorem dX8_reckon_45 : decode cX8_reckon 45 = .ok (.iload_n 2, 1) := dk_28 (dk_at dksX8_reckon_2 1 rfl rfl)
theorem dX8_reckon_46 : decode cX8_reckon 46 = .ok (.iadd, 1) := dk_96 (dk_at dksX8_reckon_2 2 rfl rfl)
theorem dX8_reckon_47 : decode cX8_reckon 47 = .ok (.ireturn, 1) := dk_172 (dk_at dksX8_reckon_2 3 rfl rfl)
theorem dX8_reckon_48 : decode cX8_reckon 48 = .ok (.iload_n 1, 1) := dk_27 (dk_at dksX8_reckon_2 4 rfl rfl)
theorem dX8_reckon_49 : decode cX8_reckon 49 = .ok (.iload_n 2, 1) := dk_28 (dk_at dksX8_reckon_2 5 rfl rfl)
theorem dX8_reckon_50 : decode cX8_reckon 50 = .ok (.isub, 1) := dk_100 (dk_at dksX8_reckon_2 6 rfl rfl)
theorem dX8_reckon_51 : decode cX8_reckon 51 = .ok (.ireturn, 1) := dk_172 (dk_at dksX8_reckon_2 7 rfl rfl)
theorem dX8_reckon_52 : decode cX8_reckon 52 = .ok (.iload_n 1, 1) := dk_27 (dk_at dksX8_reckon_2 8 rfl rfl)
theorem dX8_reckon_53 : decode cX8_reckon 53 = .ok (.iload_n 2, 1) := dk_28 (dk_at dksX8_reckon_2 9 rfl rfl)
theorem dX8_reckon_54 : decode cX8_reckon 54 = .ok (.imul, 1) := dk_104 (dk_at dksX8_reckon_2 10 rfl rfl)
theorem dX8_reckon_55 : decode cX8_reckon 55 = .ok (.ireturn, 1) := dk_172 (dk_at dksX8_reckon_2 11 rfl rfl)
theorem dX8_reckon_56 : decode cX8_reckon 56 = .ok (.iload_n 2, 1) := dk_28 (dk_at dksX8_reckon_2 12 rfl rfl)
theorem dX8_reckon_57 : decode cX8_reckon 57 = .ok (.ifCond .ne 7, 3) := dk_154 0 7 (dk_at dksX8_reckon_2 13 rfl rfl)
theorem dX8_reckon_60 : decode cX8_reckon 60 = .ok (.iconst 0, 1) := dk_3 (dk_at dksX8_reckon_2 16 rfl rfl)
theorem dX8_reckon_61 : decode cX8_reckon 61 = .ok (.goto 6, 3) := dk_167 0 6 (dk_at dksX8_reckon_2 17 rfl rfl)
theorem dX8_reckon_64 : decode cX8_reckon 64 = .ok (.iload_n 1, 1) := dk_27 (dk_at dksX8_reckon_2 20 rfl rfl)
theorem dX8_reckon_65 : decode cX8_reckon 65 = .ok (.iload_n 2, 1) := dk_28 (dk_at dksX8_reckon_2 21 rfl rfl)
theorem dX8_reckon_66 : decode cX8_reckon 66 = .ok (.idiv, 1) := dk_108 (dk_at dksX8_reckon_2 22 rfl rfl)
theorem dX8_reckon_67 : decode cX8_reckon 67 = .ok (.ireturn, 1) := dk_172 (dk_at dksX8_reckon_2 23 rfl rfl)
theorem dX8_reckon_68 : decode cX8_reckon 68 = .ok (.iload_n 1, 1) := dk_27 (dk_at dksX8_reckon_3 0 rfl rfl)
theorem dX8_reckon_69 : decode cX8_reckon 69 = .ok (.iload_n 2, 1) := dk_28 (dk_at dksX8_reckon_3 1 rfl rfl)
theorem dX8_reckon_70 : decode cX8_reckon 70 = .ok (.if_icmp .ge 7, 3) := dk_162 0 7 (dk_at dksX8_reckon_3 2 rfl rfl)
theorem dX8_reckon_73 : decode cX8_reckon 73 = .ok (.iconst 1, 1) := dk_4 (dk_at dksX8_reckon_3 5 rfl rfl)
theorem dX8_reckon_74 : decode cX8_reckon 74 = .ok (.goto 4, 3) := dk_167 0 4 (dk_at dksX8_reckon_3 6 rfl rfl)
theorem dX8_reckon_77 : decode cX8_reckon 77 = .ok (.iconst 0, 1) := dk_3 (dk_at dksX8_reckon_3 9 rfl rfl)
theorem dX8_reckon_78 : decode cX8_reckon 78 = .ok (.ireturn, 1) := dk_172 (dk_at dksX8_reckon_3 10 rfl rfl)
theorem dX8_reckon_79 : decode cX8_reckon 79 = .ok (.iload_n 1, 1) := dk_27 (dk_at dksX8_reckon_3 11 rfl rfl)
theorem dX8_reckon_80 : decode cX8_reckon 80 = .ok (.iload_n 2, 1) := dk_28 (dk_at dksX8_reckon_3 12 rfl rfl)
theorem dX8_reckon_81 : decode cX8_reckon 81 = .ok (.if_icmp .ne 7, 3) := dk_160 0 7 (dk_at dksX8_reckon_3 13 rfl rfl)
theorem dX8_reckon_84 : decode cX8_reckon 84 = .ok (.iconst 1, 1) := dk_4 (dk_at dksX8_reckon_3 16 rfl rfl)
theorem dX8_reckon_85 : decode cX8_reckon 85 = .ok (.goto 4, 3) := dk_167 0 4 (dk_at dksX8_reckon_3 17 rfl rfl)
theorem dX8_reckon_88 : decode cX8_reckon 88 = .ok (.iconst 0, 1) := dk_3 (dk_at dksX8_reckon_3 20 rfl rfl)
theorem dX8_reckon_89 : decode cX8_reckon 89 = .ok (.ireturn, 1) := dk_172 (dk_at dksX8_reckon_3 21 rfl rfl)
theorem dX8_reckon_90 : decode cX8_reckon 90 = .ok (.iload_n 1, 1) := dk_27 (dk_at dksX8_reckon_3 22 rfl rfl)
theorem dX8_reckon_91 : decode cX8_reckon 91 = .ok (.ifCond .eq 11, 3) := dk_153 0 11 (dk_at dksX8_reckon_4 0 rfl rfl)
theorem dX8_reckon_94 : decode cX8_reckon 94 = .ok (.iload_n 2, 1) := dk_28 (dk_at dksX8_reckon_4 3 rfl rfl)
theorem dX8_reckon_95 : decode cX8_reckon 95 = .ok (.ifCond .eq 7, 3) := dk_153 0 7 (dk_at dksX8_reckon_4 4 rfl rfl)
theorem dX8_reckon_98 : decode cX8_reckon 98 = .ok (.iconst 1, 1) := dk_4 (dk_at dksX8_reckon_4 7 rfl rfl)
theorem dX8_reckon_99 : decode cX8_reckon 99 = .ok (.goto 4, 3) := dk_167 0 4 (dk_at dksX8_reckon_4 8 rfl rfl)
theorem dX8_reckon_102 : decode cX8_reckon 102 = .ok (.iconst 0, 1) := dk_3 (dk_at dksX8_reckon_4 11 rfl rfl)
theorem dX8_reckon_103 : decode cX8_reckon 103 = .ok (.ireturn, 1) := dk_172 (dk_at dksX8_reckon_4 12 rfl rfl)
theorem dX8_reckon_104 : decode cX8_reckon 104 = .ok (.iload_n 1, 1) := dk_27 (dk_at dksX8_reckon_4 13 rfl rfl)
theorem dX8_reckon_105 : decode cX8_reckon 105 = .ok (.ifCond .ne 7, 3) := dk_154 0 7 (dk_at dksX8_reckon_4 14 rfl rfl)
theorem dX8_reckon_108 : decode cX8_reckon 108 = .ok (.iload_n 2, 1) := dk_28 (dk_at dksX8_reckon_4 17 rfl rfl)
theorem dX8_reckon_109 : decode cX8_reckon 109 = .ok (.ifCond .eq 7, 3) := dk_153 0 7 (dk_at dksX8_reckon_4 18 rfl rfl)
theorem dX8_reckon_112 : decode cX8_reckon 112 = .ok (.iconst 1, 1) := dk_4 (dk_at dksX8_reckon_4 21 rfl rfl)
theorem dX8_reckon_113 : decode cX8_reckon 113 = .ok (.goto 4, 3) := dk_167 0 4 (dk_at dksX8_reckon_5 0 rfl rfl)
theorem dX8_reckon_116 : decode cX8_reckon 116 = .ok (.iconst 0, 1) := dk_3 (dk_at dksX8_reckon_5 3 rfl rfl)
theorem dX8_reckon_117 : decode cX8_reckon 117 = .ok (.ireturn, 1) := dk_172 (dk_at dksX8_reckon_5 4 rfl rfl)
abbrev cX8_judgeAll : ByteArray := prog_20_method_62_code
def yX8_judgeAll : MethodName := ⟨RX8, "judgeAll", "()I"⟩
def dkwX8_judgeAll_1 : List UInt8 := [28, 46, 18, 186, 162, 0, 7, 4, 167, 0, 4, 3, 96, 60, 132, 2, 1, 167, 255, 219, 27, 172]
abbrev dktX8_judgeAll_1 : List UInt8 := dkwX8_judgeAll_1 ++ []
def dkwX8_judgeAll_0 : List UInt8 := [3, 60, 3, 61, 28, 42, 180, 0, 34, 8, 46, 162, 0, 33, 42, 28, 182, 1, 145, 27, 42, 180, 0, 117]
abbrev dktX8_judgeAll_0 : List UInt8 := dkwX8_judgeAll_0 ++ dktX8_judgeAll_1
theorem dksX8_judgeAll_0 : cX8_judgeAll.data.toList.drop 0 = dktX8_judgeAll_0 := by decide +kernel
theorem dksX8_judgeAll_1 : cX8_judgeAll.data.toList.drop 24 = dktX8_judgeAll_1 := dk_seg dksX8_judgeAll_0 24 rfl rfl
theorem dX8_judgeAll_0 : decode cX8_judgeAll 0 = .ok (.iconst 0, 1) := dk_3 (dk_at dksX8_judgeAll_0 0 rfl rfl)
theorem dX8_judgeAll_1 : decode cX8_judgeAll 1 = .ok (.istore_n 1, 1) := dk_60 (dk_at dksX8_judgeAll_0 1 rfl rfl)
theorem dX8_judgeAll_2 : decode cX8_judgeAll 2 = .ok (.iconst 0, 1) := dk_3 (dk_at dksX8_judgeAll_0 2 rfl rfl)
theorem dX8_judgeAll_3 : decode cX8_judgeAll 3 = .ok (.istore_n 2, 1) := dk_61 (dk_at dksX8_judgeAll_0 3 rfl rfl)
theorem dX8_judgeAll_4 : decode cX8_judgeAll 4 = .ok (.iload_n 2, 1) := dk_28 (dk_at dksX8_judgeAll_0 4 rfl rfl)
theorem dX8_judgeAll_5 : decode cX8_judgeAll 5 = .ok (.aload_n 0, 1) := dk_42 (dk_at dksX8_judgeAll_0 5 rfl rfl)
theorem dX8_judgeAll_6 : decode cX8_judgeAll 6 = .ok (.getfield 34, 3) := dk_180 0 34 (dk_at dksX8_judgeAll_0 6 rfl rfl)
theorem dX8_judgeAll_9 : decode cX8_judgeAll 9 = .ok (.iconst 5, 1) := dk_8 (dk_at dksX8_judgeAll_0 9 rfl rfl)
theorem dX8_judgeAll_10 : decode cX8_judgeAll 10 = .ok (.iaload, 1) := dk_46 (dk_at dksX8_judgeAll_0 10 rfl rfl)
theorem dX8_judgeAll_11 : decode cX8_judgeAll 11 = .ok (.if_icmp .ge 33, 3) := dk_162 0 33 (dk_at dksX8_judgeAll_0 11 rfl rfl)
theorem dX8_judgeAll_14 : decode cX8_judgeAll 14 = .ok (.aload_n 0, 1) := dk_42 (dk_at dksX8_judgeAll_0 14 rfl rfl)
theorem dX8_judgeAll_15 : decode cX8_judgeAll 15 = .ok (.iload_n 2, 1) := dk_28 (dk_at dksX8_judgeAll_0 15 rfl rfl)
theorem dX8_judgeAll_16 : decode cX8_judgeAll 16 = .ok (.invokevirtual 401, 3) := dk_182 1 145 (dk_at dksX8_judgeAll_0 16 rfl rfl)
theorem dX8_judgeAll_19 : decode cX8_judgeAll 19 = .ok (.iload_n 1, 1) := dk_27 (dk_at dksX8_judgeAll_0 19 rfl rfl)
theorem dX8_judgeAll_20 : decode cX8_judgeAll 20 = .ok (.aload_n 0, 1) := dk_42 (dk_at dksX8_judgeAll_0 20 rfl rfl)
theorem dX8_judgeAll_21 : decode cX8_judgeAll 21 = .ok (.getfield 117, 3) := dk_180 0 117 (dk_at dksX8_judgeAll_0 21 rfl rfl)
theorem dX8_judgeAll_24 : decode cX8_judgeAll 24 = .ok (.iload_n 2, 1) := dk_28 (dk_at dksX8_judgeAll_1 0 rfl rfl)
theorem dX8_judgeAll_25 : decode cX8_judgeAll 25 = .ok (.iaload, 1) := dk_46 (dk_at dksX8_judgeAll_1 1 rfl rfl)
theorem dX8_judgeAll_26 : decode cX8_judgeAll 26 = .ok (.ldc 186, 2) := dk_18 186 (dk_at dksX8_judgeAll_1 2 rfl rfl)
theorem dX8_judgeAll_28 : decode cX8_judgeAll 28 = .ok (.if_icmp .ge 7, 3) := dk_162 0 7 (dk_at dksX8_judgeAll_1 4 rfl rfl)
theorem dX8_judgeAll_31 : decode cX8_judgeAll 31 = .ok (.iconst 1, 1) := dk_4 (dk_at dksX8_judgeAll_1 7 rfl rfl)
theorem dX8_judgeAll_32 : decode cX8_judgeAll 32 = .ok (.goto 4, 3) := dk_167 0 4 (dk_at dksX8_judgeAll_1 8 rfl rfl)
theorem dX8_judgeAll_35 : decode cX8_judgeAll 35 = .ok (.iconst 0, 1) := dk_3 (dk_at dksX8_judgeAll_1 11 rfl rfl)
theorem dX8_judgeAll_36 : decode cX8_judgeAll 36 = .ok (.iadd, 1) := dk_96 (dk_at dksX8_judgeAll_1 12 rfl rfl)
theorem dX8_judgeAll_37 : decode cX8_judgeAll 37 = .ok (.istore_n 1, 1) := dk_60 (dk_at dksX8_judgeAll_1 13 rfl rfl)
theorem dX8_judgeAll_38 : decode cX8_judgeAll 38 = .ok (.iinc 2 1, 3) := dk_132 2 1 (dk_at dksX8_judgeAll_1 14 rfl rfl)
theorem dX8_judgeAll_41 : decode cX8_judgeAll 41 = .ok (.goto (-37), 3) := dk_167 255 219 (dk_at dksX8_judgeAll_1 17 rfl rfl)
theorem dX8_judgeAll_44 : decode cX8_judgeAll 44 = .ok (.iload_n 1, 1) := dk_27 (dk_at dksX8_judgeAll_1 20 rfl rfl)
theorem dX8_judgeAll_45 : decode cX8_judgeAll 45 = .ok (.ireturn, 1) := dk_172 (dk_at dksX8_judgeAll_1 21 rfl rfl)
abbrev cX8_judgeCase : ByteArray := prog_20_method_60_code
def yX8_judgeCase : MethodName := ⟨RX8, "judgeCase", "(I)V"⟩
def dkwX8_judgeCase_7 : List UInt8 := [167, 255, 150, 177]
abbrev dktX8_judgeCase_7 : List UInt8 := dkwX8_judgeCase_7 ++ []
def dkwX8_judgeCase_6 : List UInt8 := [120, 128, 4, 21, 4, 120, 128, 79, 132, 4, 1, 167, 255, 191, 132, 3, 1, 167, 255, 170, 132, 2, 1]
abbrev dktX8_judgeCase_6 : List UInt8 := dkwX8_judgeCase_6 ++ dktX8_judgeCase_7
def dkwX8_judgeCase_5 : List UInt8 := [161, 0, 6, 167, 0, 29, 42, 180, 0, 117, 27, 21, 5, 79, 42, 180, 0, 120, 27, 4, 28, 120, 4, 29]
abbrev dktX8_judgeCase_5 : List UInt8 := dkwX8_judgeCase_5 ++ dktX8_judgeCase_6
def dkwX8_judgeCase_4 : List UInt8 := [46, 162, 0, 60, 42, 27, 28, 29, 21, 4, 182, 1, 128, 54, 5, 21, 5, 42, 180, 0, 117, 27, 46]
abbrev dktX8_judgeCase_4 : List UInt8 := dkwX8_judgeCase_4 ++ dktX8_judgeCase_5
def dkwX8_judgeCase_3 : List UInt8 := [96, 62, 29, 42, 180, 0, 34, 7, 46, 162, 0, 82, 29, 4, 96, 54, 4, 21, 4, 42, 180, 0, 34, 7]
abbrev dktX8_judgeCase_3 : List UInt8 := dkwX8_judgeCase_3 ++ dktX8_judgeCase_4
def dkwX8_judgeCase_2 : List UInt8 := [18, 186, 79, 42, 180, 0, 120, 27, 3, 79, 3, 61, 28, 42, 180, 0, 34, 7, 46, 162, 0, 102, 28, 4]
abbrev dktX8_judgeCase_2 : List UInt8 := dkwX8_judgeCase_2 ++ dktX8_judgeCase_3
def dkwX8_judgeCase_1 : List UInt8 := [182, 1, 125, 153, 0, 7, 4, 167, 0, 4, 3, 79, 132, 2, 1, 167, 255, 219, 42, 180, 0, 117, 27]
abbrev dktX8_judgeCase_1 : List UInt8 := dkwX8_judgeCase_1 ++ dktX8_judgeCase_2
def dkwX8_judgeCase_0 : List UInt8 := [3, 61, 28, 42, 180, 0, 34, 7, 46, 162, 0, 33, 42, 180, 0, 114, 8, 27, 104, 28, 96, 42, 27, 28]
abbrev dktX8_judgeCase_0 : List UInt8 := dkwX8_judgeCase_0 ++ dktX8_judgeCase_1
theorem dksX8_judgeCase_0 : cX8_judgeCase.data.toList.drop 0 = dktX8_judgeCase_0 := by decide +kernel
theorem dksX8_judgeCase_1 : cX8_judgeCase.data.toList.drop 24 = dktX8_judgeCase_1 := dk_seg dksX8_judgeCase_0 24 rfl rfl
theorem dksX8_judgeCase_2 : cX8_judgeCase.data.toList.drop 47 = dktX8_judgeCase_2 := dk_seg dksX8_judgeCase_1 23 rfl rfl
theorem dksX8_judgeCase_3 : cX8_judgeCase.data.toList.drop 71 = dktX8_judgeCase_3 := dk_seg dksX8_judgeCase_2 24 rfl rfl
theorem dksX8_judgeCase_4 : cX8_judgeCase.data.toList.drop 95 = dktX8_judgeCase_4 := dk_seg dksX8_judgeCase_3 24 rfl rfl
theorem dksX8_judgeCase_5 : cX8_judgeCase.data.toList.drop 118 = dktX8_judgeCase_5 := dk_seg dksX8_judgeCase_4 23 rfl rfl
theorem dksX8_judgeCase_6 : cX8_judgeCase.data.toList.drop 142 = dktX8_judgeCase_6 := dk_seg dksX8_judgeCase_5 24 rfl rfl
theorem dksX8_judgeCase_7 : cX8_judgeCase.data.toList.drop 165 = dktX8_judgeCase_7 := dk_seg dksX8_judgeCase_6 23 rfl rfl
theorem dX8_judgeCase_0 : decode cX8_judgeCase 0 = .ok (.iconst 0, 1) := dk_3 (dk_at dksX8_judgeCase_0 0 rfl rfl)
theorem dX8_judgeCase_1 : decode cX8_judgeCase 1 = .ok (.istore_n 2, 1) := dk_61 (dk_at dksX8_judgeCase_0 1 rfl rfl)
theorem dX8_judgeCase_2 : decode cX8_judgeCase 2 = .ok (.iload_n 2, 1) := dk_28 (dk_at dksX8_judgeCase_0 2 rfl rfl)
theorem dX8_judgeCase_3 : decode cX8_judgeCase 3 = .ok (.aload_n 0, 1) := dk_42 (dk_at dksX8_judgeCase_0 3 rfl rfl)
theorem dX8_judgeCase_4 : decode cX8_judgeCase 4 = .ok (.getfield 34, 3) := dk_180 0 34 (dk_at dksX8_judgeCase_0 4 rfl rfl)
theorem dX8_judgeCase_7 : decode cX8_judgeCase 7 = .ok (.iconst 4, 1) := dk_7 (dk_at dksX8_judgeCase_0 7 rfl rfl)
theorem dX8_judgeCase_8 : decode cX8_judgeCase 8 = .ok (.iaload, 1) := dk_46 (dk_at dksX8_judgeCase_0 8 rfl rfl)
theorem dX8_judgeCase_9 : decode cX8_judgeCase 9 = .ok (.if_icmp .ge 33, 3) := dk_162 0 33 (dk_at dksX8_judgeCase_0 9 rfl rfl)
theorem dX8_judgeCase_12 : decode cX8_judgeCase 12 = .ok (.aload_n 0, 1) := dk_42 (dk_at dksX8_judgeCase_0 12 rfl rfl)
theorem dX8_judgeCase_13 : decode cX8_judgeCase 13 = .ok (.getfield 114, 3) := dk_180 0 114 (dk_at dksX8_judgeCase_0 13 rfl rfl)
theorem dX8_judgeCase_16 : decode cX8_judgeCase 16 = .ok (.iconst 5, 1) := dk_8 (dk_at dksX8_judgeCase_0 16 rfl rfl)
theorem dX8_judgeCase_17 : decode cX8_judgeCase 17 = .ok (.iload_n 1, 1) := dk_27 (dk_at dksX8_judgeCase_0 17 rfl rfl)
theorem dX8_judgeCase_18 : decode cX8_judgeCase 18 = .ok (.imul, 1) := dk_104 (dk_at dksX8_judgeCase_0 18 rfl rfl)
theorem dX8_judgeCase_19 : decode cX8_judgeCase 19 = .ok (.iload_n 2, 1) := dk_28 (dk_at dksX8_judgeCase_0 19 rfl rfl)
theorem dX8_judgeCase_20 : decode cX8_judgeCase 20 = .ok (.iadd, 1) := dk_96 (dk_at dksX8_judgeCase_0 20 rfl rfl)
theorem dX8_judgeCase_21 : decode cX8_judgeCase 21 = .ok (.aload_n 0, 1) := dk_42 (dk_at dksX8_judgeCase_0 21 rfl rfl)
theorem dX8_judgeCase_22 : decode cX8_judgeCase 22 = .ok (.iload_n 1, 1) := dk_27 (dk_at dksX8_judgeCase_0 22 rfl rfl)
theorem dX8_judgeCase_23 : decode cX8_judgeCase 23 = .ok (.iload_n 2, 1) := dk_28 (dk_at dksX8_judgeCase_0 23 rfl rfl)
theorem dX8_judgeCase_24 : decode cX8_judgeCase 24 = .ok (.invokevirtual 381, 3) := dk_182 1 125 (dk_at dksX8_judgeCase_1 0 rfl rfl)
theorem dX8_judgeCase_27 : decode cX8_judgeCase 27 = .ok (.ifCond .eq 7, 3) := dk_153 0 7 (dk_at dksX8_judgeCase_1 3 rfl rfl)
theorem dX8_judgeCase_30 : decode cX8_judgeCase 30 = .ok (.iconst 1, 1) := dk_4 (dk_at dksX8_judgeCase_1 6 rfl rfl)
theorem dX8_judgeCase_31 : decode cX8_judgeCase 31 = .ok (.goto 4, 3) := dk_167 0 4 (dk_at dksX8_judgeCase_1 7 rfl rfl)
theorem dX8_judgeCase_34 : decode cX8_judgeCase 34 = .ok (.iconst 0, 1) := dk_3 (dk_at dksX8_judgeCase_1 10 rfl rfl)
theorem dX8_judgeCase_35 : decode cX8_judgeCase 35 = .ok (.iastore, 1) := dk_79 (dk_at dksX8_judgeCase_1 11 rfl rfl)
theorem dX8_judgeCase_36 : decode cX8_judgeCase 36 = .ok (.iinc 2 1, 3) := dk_132 2 1 (dk_at dksX8_judgeCase_1 12 rfl rfl)
theorem dX8_judgeCase_39 : decode cX8_judgeCase 39 = .ok (.goto (-37), 3) := dk_167 255 219 (dk_at dksX8_judgeCase_1 15 rfl rfl)
theorem dX8_judgeCase_42 : decode cX8_judgeCase 42 = .ok (.aload_n 0, 1) := dk_42 (dk_at dksX8_judgeCase_1 18 rfl rfl)
theorem dX8_judgeCase_43 : decode cX8_judgeCase 43 = .ok (.getfield 117, 3) := dk_180 0 117 (dk_at dksX8_judgeCase_1 19 rfl rfl)
theorem dX8_judgeCase_46 : decode cX8_judgeCase 46 = .ok (.iload_n 1, 1) := dk_27 (dk_at dksX8_judgeCase_1 22 rfl rfl)
theorem dX8_judgeCase_47 : decode cX8_judgeCase 47 = .ok (.ldc 186, 2) := dk_18 186 (dk_at dksX8_judgeCase_2 0 rfl rfl)
theorem dX8_judgeCase_49 : decode cX8_judgeCase 49 = .ok (.iastore, 1) := dk_79 (dk_at dksX8_judgeCase_2 2 rfl rfl)
theorem dX8_judgeCase_50 : decode cX8_judgeCase 50 = .ok (.aload_n 0, 1) := dk_42 (dk_at dksX8_judgeCase_2 3 rfl rfl)
theorem dX8_judgeCase_51 : decode cX8_judgeCase 51 = .ok (.getfield 120, 3) := dk_180 0 120 (dk_at dksX8_judgeCase_2 4 rfl rfl)
theorem dX8_judgeCase_54 : decode cX8_judgeCase 54 = .ok (.iload_n 1, 1) := dk_27 (dk_at dksX8_judgeCase_2 7 rfl rfl)
theorem dX8_judgeCase_55 : decode cX8_judgeCase 55 = .ok (.iconst 0, 1) := dk_3 (dk_at dksX8_judgeCase_2 8 rfl rfl)
theorem dX8_judgeCase_56 : decode cX8_judgeCase 56 = .ok (.iastore, 1) := dk_79 (dk_at dksX8_judgeCase_2 9 rfl rfl)
theorem dX8_judgeCase_57 : decode cX8_judgeCase 57 = .ok (.iconst 0, 1) := dk_3 (dk_at dksX8_judgeCase_2 10 rfl rfl)
theorem dX8_judgeCase_58 : decode cX8_judgeCase 58 = .ok (.istore_n 2, 1) := dk_61 (dk_at dksX8_judgeCase_2 11 rfl rfl)
theorem dX8_judgeCase_59 : decode cX8_judgeCase 59 = .ok (.iload_n 2, 1) := dk_28 (dk_at dksX8_judgeCase_2 12 rfl rfl)
theorem dX8_judgeCase_60 : decode cX8_judgeCase 60 = .ok (.aload_n 0, 1) := dk_42 (dk_at dksX8_judgeCase_2 13 rfl rfl)
theorem dX8_judgeCase_61 : decode cX8_judgeCase 61 = .ok (.getfield 34, 3) := dk_180 0 34 (dk_at dksX8_judgeCase_2 14 rfl rfl)
theorem dX8_judgeCase_64 : decode cX8_judgeCase 64 = .ok (.iconst 4, 1) := dk_7 (dk_at dksX8_judgeCase_2 17 rfl rfl)
theorem dX8_judgeCase_65 : decode cX8_judgeCase 65 = .ok (.iaload, 1) := dk_46 (dk_at dksX8_judgeCase_2 18 rfl rfl)
theorem dX8_judgeCase_66 : decode cX8_judgeCase 66 = .ok (.if_icmp .ge 102, 3) := dk_162 0 102 (dk_at dksX8_judgeCase_2 19 rfl rfl)
theorem dX8_judgeCase_69 : decode cX8_judgeCase 69 = .ok (.iload_n 2, 1) := dk_28 (dk_at dksX8_judgeCase_2 22 rfl rfl)
theorem dX8_judgeCase_70 : decode cX8_judgeCase 70 = .ok (.iconst 1, 1) := dk_4 (dk_at dksX8_judgeCase_2 23 rfl rfl)
theorem dX8_judgeCase_71 : decode cX8_judgeCase 71 = .ok (.iadd, 1) := dk_96 (dk_at dksX8_judgeCase_3 0 rfl rfl)
theorem dX8_judgeCase_72 : decode cX8_judgeCase 72 = .ok (.istore_n 3, 1) := dk_62 (dk_at dksX8_judgeCase_3 1 rfl rfl)
theorem dX8_judgeCase_73 : decode cX8_judgeCase 73 = .ok (.iload_n 3, 1) := dk_29 (dk_at dksX8_judgeCase_3 2 rfl rfl)
theorem dX8_judgeCase_74 : decode cX8_judgeCase 74 = .ok (.aload_n 0, 1) := dk_42 (dk_at dksX8_judgeCase_3 3 rfl rfl)
theorem dX8_judgeCase_75 : decode cX8_judgeCase 75 = .ok (.getfield 34, 3) := dk_180 0 34 (dk_at dksX8_judgeCase_3 4 rfl rfl)
theorem dX8_judgeCase_78 : decode cX8_judgeCase 78 = .ok (.iconst 4, 1) := dk_7 (dk_at dksX8_judgeCase_3 7 rfl rfl)
theorem dX8_judgeCase_79 : decode cX8_judgeCase 79 = .ok (.iaload, 1) := dk_46 (dk_at dksX8_judgeCase_3 8 rfl rfl)
theorem dX8_judgeCase_80 : decode cX8_judgeCase 80 = .ok (.if_icmp .ge 82, 3) := dk_162 0 82 (dk_at dksX8_judgeCase_3 9 rfl rfl)
theorem dX8_judgeCase_83 : decode cX8_judgeCase 83 = .ok (.iload_n 3, 1) := dk_29 (dk_at dksX8_judgeCase_3 12 rfl rfl)
theorem dX8_judgeCase_84 : decode cX8_judgeCase 84 = .ok (.iconst 1, 1) := dk_4 (dk_at dksX8_judgeCase_3 13 rfl rfl)
theorem dX8_judgeCase_85 : decode cX8_judgeCase 85 = .ok (.iadd, 1) := dk_96 (dk_at dksX8_judgeCase_3 14 rfl rfl)
theorem dX8_judgeCase_86 : decode cX8_judgeCase 86 = .ok (.istore 4, 2) := dk_54 4 (dk_at dksX8_judgeCase_3 15 rfl rfl)
theorem dX8_judgeCase_88 : decode cX8_judgeCase 88 = .ok (.iload 4, 2) := dk_21 4 (dk_at dksX8_judgeCase_3 17 rfl rfl)
theorem dX8_judgeCase_90 : decode cX8_judgeCase 90 = .ok (.aload_n 0, 1) := dk_42 (dk_at dksX8_judgeCase_3 19 rfl rfl)
theorem dX8_judgeCase_91 : decode cX8_judgeCase 91 = .ok (.getfield 34, 3) := dk_180 0 34 (dk_at dksX8_judgeCase_3 20 rfl rfl)
theorem dX8_judgeCase_94 : decode cX8_judgeCase 94 = .ok (.iconst 4, 1) := dk_7 (dk_at dksX8_judgeCase_3 23 rfl rfl)
theorem dX8_judgeCase_95 : decode cX8_judgeCase 95 = .ok (.iaload, 1) := dk_46 (dk_at dksX8_judgeCase_4 0 rfl rfl)
theorem dX8_judgeCase_96 : decode cX8_judgeCase 96 = .ok (.if_icmp .ge 60, 3) := dk_162 0 60 (dk_at dksX8_judgeCase_4 1 rfl rfl)
theorem dX8_judgeCase_99 : decode cX8_judgeCase 99 = .ok (.aload_n 0, 1) := dk_42 (dk_at dksX8_judgeCase_4 4 rfl rfl)
theorem dX8_judgeCase_100 : decode cX8_judgeCase 100 = .ok (.iload_n 1, 1) := dk_27 (dk_at dksX8_judgeCase_4 5 rfl rfl)
theorem dX8_judgeCase_101 : decode cX8_judgeCase 101 = .ok (.iload_n 2, 1) := dk_28 (dk_at dksX8_judgeCase_4 6 rfl rfl)
theorem dX8_judgeCase_102 : decode cX8_judgeCase 102 = .ok (.iload_n 3, 1) := dk_29 (dk_at dksX8_judgeCase_4 7 rfl rfl)
theorem dX8_judgeCase_103 : decode cX8_judgeCase 103 = .ok (.iload 4, 2) := dk_21 4 (dk_at dksX8_judgeCase_4 8 rfl rfl)
theorem dX8_judgeCase_105 : decode cX8_judgeCase 105 = .ok (.invokevirtual 384, 3) := dk_182 1 128 (dk_at dksX8_judgeCase_4 10 rfl rfl)
theorem dX8_judgeCase_108 : decode cX8_judgeCase 108 = .ok (.istore 5, 2) := dk_54 5 (dk_at dksX8_judgeCase_4 13 rfl rfl)
theorem dX8_judgeCase_110 : decode cX8_judgeCase 110 = .ok (.iload 5, 2) := dk_21 5 (dk_at dksX8_judgeCase_4 15 rfl rfl)
theorem dX8_judgeCase_112 : decode cX8_judgeCase 112 = .ok (.aload_n 0, 1) := dk_42 (dk_at dksX8_judgeCase_4 17 rfl rfl)
theorem dX8_judgeCase_113 : decode cX8_judgeCase 113 = .ok (.getfield 117, 3) := dk_180 0 117 (dk_at dksX8_judgeCase_4 18 rfl rfl)
theorem dX8_judgeCase_116 : decode cX8_judgeCase 116 = .ok (.iload_n 1, 1) := dk_27 (dk_at dksX8_judgeCase_4 21 rfl rfl)
theorem dX8_judgeCase_117 : decode cX8_judgeCase 117 = .ok (.iaload, 1) := dk_46 (dk_at dksX8_judgeCase_4 22 rfl rfl)
theorem dX8_judgeCase_118 : decode cX8_judgeCase 118 = .ok (.if_icmp .lt 6, 3) := dk_161 0 6 (dk_at dksX8_judgeCase_5 0 rfl rfl)
theorem dX8_judgeCase_121 : decode cX8_judgeCase 121 = .ok (.goto 29, 3) := dk_167 0 29 (dk_at dksX8_judgeCase_5 3 rfl rfl)
theorem dX8_judgeCase_124 : decode cX8_judgeCase 124 = .ok (.aload_n 0, 1) := dk_42 (dk_at dksX8_judgeCase_5 6 rfl rfl)
theorem dX8_judgeCase_125 : decode cX8_judgeCase 125 = .ok (.getfield 117, 3) := dk_180 0 117 (dk_at dksX8_judgeCase_5 7 rfl rfl)
theorem dX8_judgeCase_128 : decode cX8_judgeCase 128 = .ok (.iload_n 1, 1) := dk_27 (dk_at dksX8_judgeCase_5 10 rfl rfl)
theorem dX8_judgeCase_129 : decode cX8_judgeCase 129 = .ok (.iload 5, 2) := dk_21 5 (dk_at dksX8_judgeCase_5 11 rfl rfl)
theorem dX8_judgeCase_131 : decode cX8_judgeCase 131 = .ok (.iastore, 1) := dk_79 (dk_at dksX8_judgeCase_5 13 rfl rfl)
theorem dX8_judgeCase_132 : decode cX8_judgeCase 132 = .ok (.aload_n 0, 1) := dk_42 (dk_at dksX8_judgeCase_5 14 rfl rfl)
theorem dX8_judgeCase_133 : decode cX8_judgeCase 133 = .ok (.getfield 120, 3) := dk_180 0 120 (dk_at dksX8_judgeCase_5 15 rfl rfl)
theorem dX8_judgeCase_136 : decode cX8_judgeCase 136 = .ok (.iload_n 1, 1) := dk_27 (dk_at dksX8_judgeCase_5 18 rfl rfl)
theorem dX8_judgeCase_137 : decode cX8_judgeCase 137 = .ok (.iconst 1, 1) := dk_4 (dk_at dksX8_judgeCase_5 19 rfl rfl)
theorem dX8_judgeCase_138 : decode cX8_judgeCase 138 = .ok (.iload_n 2, 1) := dk_28 (dk_at dksX8_judgeCase_5 20 rfl rfl)
theorem dX8_judgeCase_139 : decode cX8_judgeCase 139 = .ok (.ishl, 1) := dk_120 (dk_at dksX8_judgeCase_5 21 rfl rfl)
theorem dX8_judgeCase_140 : decode cX8_judgeCase 140 = .ok (.iconst 1, 1) := dk_4 (dk_at dksX8_judgeCase_5 22 rfl rfl)
theorem dX8_judgeCase_141 : decode cX8_judgeCase 141 = .ok (.iload_n 3, 1) := dk_29 (dk_at dksX8_judgeCase_5 23 rfl rfl)
theorem dX8_judgeCase_142 : decode cX8_judgeCase 142 = .ok (.ishl, 1) := dk_120 (dk_at dksX8_judgeCase_6 0 rfl rfl)
theorem dX8_judgeCase_143 : decode cX8_judgeCase 143 = .ok (.ior, 1) := dk_128 (dk_at dksX8_judgeCase_6 1 rfl rfl)
theorem dX8_judgeCase_144 : decode cX8_judgeCase 144 = .ok (.iconst 1, 1) := dk_4 (dk_at dksX8_judgeCase_6 2 rfl rfl)
theorem dX8_judgeCase_145 : decode cX8_judgeCase 145 = .ok (.iload 4, 2) := dk_21 4 (dk_at dksX8_judgeCase_6 3 rfl rfl)
theorem dX8_judgeCase_147 : decode cX8_judgeCase 147 = .ok (.ishl, 1) := dk_120 (dk_at dksX8_judgeCase_6 5 rfl rfl)
theorem dX8_judgeCase_148 : decode cX8_judgeCase 148 = .ok (.ior, 1) := dk_128 (dk_at dksX8_judgeCase_6 6 rfl rfl)
theorem dX8_judgeCase_149 : decode cX8_judgeCase 149 = .ok (.iastore, 1) := dk_79 (dk_at dksX8_judgeCase_6 7 rfl rfl)
theorem dX8_judgeCase_150 : decode cX8_judgeCase 150 = .ok (.iinc 4 1, 3) := dk_132 4 1 (dk_at dksX8_judgeCase_6 8 rfl rfl)
theorem dX8_judgeCase_153 : decode cX8_judgeCase 153 = .ok (.goto (-65), 3) := dk_167 255 191 (dk_at dksX8_judgeCase_6 11 rfl rfl)
theorem dX8_judgeCase_156 : decode cX8_judgeCase 156 = .ok (.iinc 3 1, 3) := dk_132 3 1 (dk_at dksX8_judgeCase_6 14 rfl rfl)
theorem dX8_judgeCase_159 : decode cX8_judgeCase 159 = .ok (.goto (-86), 3) := dk_167 255 170 (dk_at dksX8_judgeCase_6 17 rfl rfl)
theorem dX8_judgeCase_162 : decode cX8_judgeCase 162 = .ok (.iinc 2 1, 3) := dk_132 2 1 (dk_at dksX8_judgeCase_6 20 rfl rfl)
theorem dX8_judgeCase_165 : decode cX8_judgeCase 165 = .ok (.goto (-106), 3) := dk_167 255 150 (dk_at dksX8_judgeCase_7 0 rfl rfl)
theorem dX8_judgeCase_168 : decode cX8_judgeCase 168 = .ok (.return_, 1) := dk_177 (dk_at dksX8_judgeCase_7 3 rfl rfl)
abbrev cX8_isVoided : ByteArray := prog_20_method_57_code
def yX8_isVoided : MethodName := ⟨RX8, "isVoided", "(II)Z"⟩
def dkwX8_isVoided_9 : List UInt8 := [3, 172]
abbrev dktX8_isVoided_9 : List UInt8 := dkwX8_isVoided_9 ++ []
def dkwX8_isVoided_8 : List UInt8 := [21, 5, 182, 1, 116, 21, 6, 163, 0, 5, 4, 172, 132, 7, 1, 167, 255, 185, 132, 4, 1, 167, 255, 102]
abbrev dktX8_isVoided_8 : List UInt8 := dkwX8_isVoided_8 ++ dktX8_isVoided_9
def dkwX8_isVoided_7 : List UInt8 := [42, 180, 0, 108, 8, 27, 104, 21, 7, 96, 46, 42, 180, 0, 108, 29, 46, 162, 0, 19, 42, 27, 21, 7]
abbrev dktX8_isVoided_7 : List UInt8 := dkwX8_isVoided_7 ++ dktX8_isVoided_8
def dkwX8_isVoided_6 : List UInt8 := [162, 0, 66, 21, 7, 28, 159, 0, 54, 42, 180, 0, 106, 8, 27, 104, 21, 7, 96, 46, 2, 159, 0, 39]
abbrev dktX8_isVoided_6 : List UInt8 := dkwX8_isVoided_6 ++ dktX8_isVoided_7
def dkwX8_isVoided_5 : List UInt8 := [21, 5, 182, 1, 113, 21, 6, 163, 0, 5, 4, 172, 3, 54, 7, 21, 7, 42, 180, 0, 34, 7, 46]
abbrev dktX8_isVoided_5 : List UInt8 := dkwX8_isVoided_5 ++ dktX8_isVoided_6
def dkwX8_isVoided_4 : List UInt8 := [104, 21, 4, 96, 46, 54, 5, 42, 180, 0, 94, 16, 7, 28, 104, 21, 4, 96, 46, 54, 6, 42, 27]
abbrev dktX8_isVoided_4 : List UInt8 := dkwX8_isVoided_4 ++ dktX8_isVoided_5
def dkwX8_isVoided_3 : List UInt8 := [16, 7, 28, 104, 21, 4, 96, 46, 42, 180, 0, 108, 29, 46, 163, 0, 128, 42, 180, 0, 91, 16, 7, 28]
abbrev dktX8_isVoided_3 : List UInt8 := dkwX8_isVoided_3 ++ dktX8_isVoided_4
def dkwX8_isVoided_2 : List UInt8 := [160, 0, 5, 4, 172, 3, 54, 4, 21, 4, 42, 180, 0, 49, 28, 46, 162, 0, 149, 42, 180, 0, 94]
abbrev dktX8_isVoided_2 : List UInt8 := dkwX8_isVoided_2 ++ dktX8_isVoided_3
def dkwX8_isVoided_1 : List UInt8 := [4, 160, 0, 5, 3, 172, 27, 42, 180, 0, 103, 160, 0, 17, 42, 180, 1, 84, 28, 122, 4, 126, 4]
abbrev dktX8_isVoided_1 : List UInt8 := dkwX8_isVoided_1 ++ dktX8_isVoided_2
def dkwX8_isVoided_0 : List UInt8 := [8, 27, 104, 28, 96, 62, 42, 180, 0, 106, 29, 46, 2, 159, 0, 15, 42, 180, 1, 87, 28, 122, 4, 126]
abbrev dktX8_isVoided_0 : List UInt8 := dkwX8_isVoided_0 ++ dktX8_isVoided_1
theorem dksX8_isVoided_0 : cX8_isVoided.data.toList.drop 0 = dktX8_isVoided_0 := by decide +kernel
theorem dksX8_isVoided_1 : cX8_isVoided.data.toList.drop 24 = dktX8_isVoided_1 := dk_seg dksX8_isVoided_0 24 rfl rfl
theorem dksX8_isVoided_2 : cX8_isVoided.data.toList.drop 47 = dktX8_isVoided_2 := dk_seg dksX8_isVoided_1 23 rfl rfl
theorem dksX8_isVoided_3 : cX8_isVoided.data.toList.drop 70 = dktX8_isVoided_3 := dk_seg dksX8_isVoided_2 23 rfl rfl
theorem dksX8_isVoided_4 : cX8_isVoided.data.toList.drop 94 = dktX8_isVoided_4 := dk_seg dksX8_isVoided_3 24 rfl rfl
theorem dksX8_isVoided_5 : cX8_isVoided.data.toList.drop 117 = dktX8_isVoided_5 := dk_seg dksX8_isVoided_4 23 rfl rfl
theorem dksX8_isVoided_6 : cX8_isVoided.data.toList.drop 140 = dktX8_isVoided_6 := dk_seg dksX8_isVoided_5 23 rfl rfl
theorem dksX8_isVoided_7 : cX8_isVoided.data.toList.drop 164 = dktX8_isVoided_7 := dk_seg dksX8_isVoided_6 24 rfl rfl
theorem dksX8_isVoided_8 : cX8_isVoided.data.toList.drop 188 = dktX8_isVoided_8 := dk_seg dksX8_isVoided_7 24 rfl rfl
theorem dksX8_isVoided_9 : cX8_isVoided.data.toList.drop 212 = dktX8_isVoided_9 := dk_seg dksX8_isVoided_8 24 rfl rfl
theorem dX8_isVoided_0 : decode cX8_isVoided 0 = .ok (.iconst 5, 1) := dk_8 (dk_at dksX8_isVoided_0 0 rfl rfl)
theorem dX8_isVoided_1 : decode cX8_isVoided 1 = .ok (.iload_n 1, 1) := dk_27 (dk_at dksX8_isVoided_0 1 rfl rfl)
theorem dX8_isVoided_2 : decode cX8_isVoided 2 = .ok (.imul, 1) := dk_104 (dk_at dksX8_isVoided_0 2 rfl rfl)
theorem dX8_isVoided_3 : decode cX8_isVoided 3 = .ok (.iload_n 2, 1) := dk_28 (dk_at dksX8_isVoided_0 3 rfl rfl)
theorem dX8_isVoided_4 : decode cX8_isVoided 4 = .ok (.iadd, 1) := dk_96 (dk_at dksX8_isVoided_0 4 rfl rfl)
theorem dX8_isVoided_5 : decode cX8_isVoided 5 = .ok (.istore_n 3, 1) := dk_62 (dk_at dksX8_isVoided_0 5 rfl rfl)
theorem dX8_isVoided_6 : decode cX8_isVoided 6 = .ok (.aload_n 0, 1) := dk_42 (dk_at dksX8_isVoided_0 6 rfl rfl)
theorem dX8_isVoided_7 : decode cX8_isVoided 7 = .ok (.getfield 106, 3) := dk_180 0 106 (dk_at dksX8_isVoided_0 7 rfl rfl)
theorem dX8_isVoided_10 : decode cX8_isVoided 10 = .ok (.iload_n 3, 1) := dk_29 (dk_at dksX8_isVoided_0 10 rfl rfl)
theorem dX8_isVoided_11 : decode cX8_isVoided 11 = .ok (.iaload, 1) := dk_46 (dk_at dksX8_isVoided_0 11 rfl rfl)
theorem dX8_isVoided_12 : decode cX8_isVoided 12 = .ok (.iconst (-1), 1) := dk_2 (dk_at dksX8_isVoided_0 12 rfl rfl)
theorem dX8_isVoided_13 : decode cX8_isVoided 13 = .ok (.if_icmp .eq 15, 3) := dk_159 0 15 (dk_at dksX8_isVoided_0 13 rfl rfl)
theorem dX8_isVoided_16 : decode cX8_isVoided 16 = .ok (.aload_n 0, 1) := dk_42 (dk_at dksX8_isVoided_0 16 rfl rfl)
theorem dX8_isVoided_17 : decode cX8_isVoided 17 = .ok (.getfield 343, 3) := dk_180 1 87 (dk_at dksX8_isVoided_0 17 rfl rfl)
theorem dX8_isVoided_20 : decode cX8_isVoided 20 = .ok (.iload_n 2, 1) := dk_28 (dk_at dksX8_isVoided_0 20 rfl rfl)
theorem dX8_isVoided_21 : decode cX8_isVoided 21 = .ok (.ishr, 1) := dk_122 (dk_at dksX8_isVoided_0 21 rfl rfl)
theorem dX8_isVoided_22 : decode cX8_isVoided 22 = .ok (.iconst 1, 1) := dk_4 (dk_at dksX8_isVoided_0 22 rfl rfl)
theorem dX8_isVoided_23 : decode cX8_isVoided 23 = .ok (.iand, 1) := dk_126 (dk_at dksX8_isVoided_0 23 rfl rfl)
theorem dX8_isVoided_24 : decode cX8_isVoided 24 = .ok (.iconst 1, 1) := dk_4 (dk_at dksX8_isVoided_1 0 rfl rfl)
theorem dX8_isVoided_25 : decode cX8_isVoided 25 = .ok (.if_icmp .ne 5, 3) := dk_160 0 5 (dk_at dksX8_isVoided_1 1 rfl rfl)
theorem dX8_isVoided_28 : decode cX8_isVoided 28 = .ok (.iconst 0, 1) := dk_3 (dk_at dksX8_isVoided_1 4 rfl rfl)
theorem dX8_isVoided_29 : decode cX8_isVoided 29 = .ok (.ireturn, 1) := dk_172 (dk_at dksX8_isVoided_1 5 rfl rfl)
theorem dX8_isVoided_30 : decode cX8_isVoided 30 = .ok (.iload_n 1, 1) := dk_27 (dk_at dksX8_isVoided_1 6 rfl rfl)
theorem dX8_isVoided_31 : decode cX8_isVoided 31 = .ok (.aload_n 0, 1) := dk_42 (dk_at dksX8_isVoided_1 7 rfl rfl)
theorem dX8_isVoided_32 : decode cX8_isVoided 32 = .ok (.getfield 103, 3) := dk_180 0 103 (dk_at dksX8_isVoided_1 8 rfl rfl)
theorem dX8_isVoided_35 : decode cX8_isVoided 35 = .ok (.if_icmp .ne 17, 3) := dk_160 0 17 (dk_at dksX8_isVoided_1 11 rfl rfl)
theorem dX8_isVoided_38 : decode cX8_isVoided 38 = .ok (.aload_n 0, 1) := dk_42 (dk_at dksX8_isVoided_1 14 rfl rfl)
theorem dX8_isVoided_39 : decode cX8_isVoided 39 = .ok (.getfield 340, 3) := dk_180 1 84 (dk_at dksX8_isVoided_1 15 rfl rfl)
theorem dX8_isVoided_42 : decode cX8_isVoided 42 = .ok (.iload_n 2, 1) := dk_28 (dk_at dksX8_isVoided_1 18 rfl rfl)
theorem dX8_isVoided_43 : decode cX8_isVoided 43 = .ok (.ishr, 1) := dk_122 (dk_at dksX8_isVoided_1 19 rfl rfl)
theorem dX8_isVoided_44 : decode cX8_isVoided 44 = .ok (.iconst 1, 1) := dk_4 (dk_at dksX8_isVoided_1 20 rfl rfl)
theorem dX8_isVoided_45 : decode cX8_isVoided 45 = .ok (.iand, 1) := dk_126 (dk_at dksX8_isVoided_1 21 rfl rfl)
theorem dX8_isVoided_46 : decode cX8_isVoided 46 = .ok (.iconst 1, 1) := dk_4 (dk_at dksX8_isVoided_1 22 rfl rfl)
theorem dX8_isVoided_47 : decode cX8_isVoided 47 = .ok (.if_icmp .ne 5, 3) := dk_160 0 5 (dk_at dksX8_isVoided_2 0 rfl rfl)
theorem dX8_isVoided_50 : decode cX8_isVoided 50 = .ok (.iconst 1, 1) := dk_4 (dk_at dksX8_isVoided_2 3 rfl rfl)
theorem dX8_isVoided_51 : decode cX8_isVoided 51 = .ok (.ireturn, 1) := dk_172 (dk_at dksX8_isVoided_2 4 rfl rfl)
theorem dX8_isVoided_52 : decode cX8_isVoided 52 = .ok (.iconst 0, 1) := dk_3 (dk_at dksX8_isVoided_2 5 rfl rfl)
theorem dX8_isVoided_53 : decode cX8_isVoided 53 = .ok (.istore 4, 2) := dk_54 4 (dk_at dksX8_isVoided_2 6 rfl rfl)
theorem dX8_isVoided_55 : decode cX8_isVoided 55 = .ok (.iload 4, 2) := dk_21 4 (dk_at dksX8_isVoided_2 8 rfl rfl)
theorem dX8_isVoided_57 : decode cX8_isVoided 57 = .ok (.aload_n 0, 1) := dk_42 (dk_at dksX8_isVoided_2 10 rfl rfl)
theorem dX8_isVoided_58 : decode cX8_isVoided 58 = .ok (.getfield 49, 3) := dk_180 0 49 (dk_at dksX8_isVoided_2 11 rfl rfl)
theorem dX8_isVoided_61 : decode cX8_isVoided 61 = .ok (.iload_n 2, 1) := dk_28 (dk_at dksX8_isVoided_2 14 rfl rfl)
theorem dX8_isVoided_62 : decode cX8_isVoided 62 = .ok (.iaload, 1) := dk_46 (dk_at dksX8_isVoided_2 15 rfl rfl)
theorem dX8_isVoided_63 : decode cX8_isVoided 63 = .ok (.if_icmp .ge 149, 3) := dk_162 0 149 (dk_at dksX8_isVoided_2 16 rfl rfl)
theorem dX8_isVoided_66 : decode cX8_isVoided 66 = .ok (.aload_n 0, 1) := dk_42 (dk_at dksX8_isVoided_2 19 rfl rfl)
theorem dX8_isVoided_67 : decode cX8_isVoided 67 = .ok (.getfield 94, 3) := dk_180 0 94 (dk_at dksX8_isVoided_2 20 rfl rfl)
theorem dX8_isVoided_70 : decode cX8_isVoided 70 = .ok (.bipush 7, 2) := dk_16 7 (dk_at dksX8_isVoided_3 0 rfl rfl)
theorem dX8_isVoided_72 : decode cX8_isVoided 72 = .ok (.iload_n 2, 1) := dk_28 (dk_at dksX8_isVoided_3 2 rfl rfl)
theorem dX8_isVoided_73 : decode cX8_isVoided 73 = .ok (.imul, 1) := dk_104 (dk_at dksX8_isVoided_3 3 rfl rfl)
theorem dX8_isVoided_74 : decode cX8_isVoided 74 = .ok (.iload 4, 2) := dk_21 4 (dk_at dksX8_isVoided_3 4 rfl rfl)
theorem dX8_isVoided_76 : decode cX8_isVoided 76 = .ok (.iadd, 1) := dk_96 (dk_at dksX8_isVoided_3 6 rfl rfl)
theorem dX8_isVoided_77 : decode cX8_isVoided 77 = .ok (.iaload, 1) := dk_46 (dk_at dksX8_isVoided_3 7 rfl rfl)
theorem dX8_isVoided_78 : decode cX8_isVoided 78 = .ok (.aload_n 0, 1) := dk_42 (dk_at dksX8_isVoided_3 8 rfl rfl)
theorem dX8_isVoided_79 : decode cX8_isVoided 79 = .ok (.getfield 108, 3) := dk_180 0 108 (dk_at dksX8_isVoided_3 9 rfl rfl)
theorem dX8_isVoided_82 : decode cX8_isVoided 82 = .ok (.iload_n 3, 1) := dk_29 (dk_at dksX8_isVoided_3 12 rfl rfl)
theorem dX8_isVoided_83 : decode cX8_isVoided 83 = .ok (.iaload, 1) := dk_46 (dk_at dksX8_isVoided_3 13 rfl rfl)
theorem dX8_isVoided_84 : decode cX8_isVoided 84 = .ok (.if_icmp .gt 128, 3) := dk_163 0 128 (dk_at dksX8_isVoided_3 14 rfl rfl)
theorem dX8_isVoided_87 : decode cX8_isVoided 87 = .ok (.aload_n 0, 1) := dk_42 (dk_at dksX8_isVoided_3 17 rfl rfl)
theorem dX8_isVoided_88 : decode cX8_isVoided 88 = .ok (.getfield 91, 3) := dk_180 0 91 (dk_at dksX8_isVoided_3 18 rfl rfl)
theorem dX8_isVoided_91 : decode cX8_isVoided 91 = .ok (.bipush 7, 2) := dk_16 7 (dk_at dksX8_isVoided_3 21 rfl rfl)
theorem dX8_isVoided_93 : decode cX8_isVoided 93 = .ok (.iload_n 2, 1) := dk_28 (dk_at dksX8_isVoided_3 23 rfl rfl)
theorem dX8_isVoided_94 : decode cX8_isVoided 94 = .ok (.imul, 1) := dk_104 (dk_at dksX8_isVoided_4 0 rfl rfl)
theorem dX8_isVoided_95 : decode cX8_isVoided 95 = .ok (.iload 4, 2) := dk_21 4 (dk_at dksX8_isVoided_4 1 rfl rfl)
theorem dX8_isVoided_97 : decode cX8_isVoided 97 = .ok (.iadd, 1) := dk_96 (dk_at dksX8_isVoided_4 3 rfl rfl)
theorem dX8_isVoided_98 : decode cX8_isVoided 98 = .ok (.iaload, 1) := dk_46 (dk_at dksX8_isVoided_4 4 rfl rfl)
theorem dX8_isVoided_99 : decode cX8_isVoided 99 = .ok (.istore 5, 2) := dk_54 5 (dk_at dksX8_isVoided_4 5 rfl rfl)
theorem dX8_isVoided_101 : decode cX8_isVoided 101 = .ok (.aload_n 0, 1) := dk_42 (dk_at dksX8_isVoided_4 7 rfl rfl)
theorem dX8_isVoided_102 : decode cX8_isVoided 102 = .ok (.getfield 94, 3) := dk_180 0 94 (dk_at dksX8_isVoided_4 8 rfl rfl)
theorem dX8_isVoided_105 : decode cX8_isVoided 105 = .ok (.bipush 7, 2) := dk_16 7 (dk_at dksX8_isVoided_4 11 rfl rfl)
theorem dX8_isVoided_107 : decode cX8_isVoided 107 = .ok (.iload_n 2, 1) := dk_28 (dk_at dksX8_isVoided_4 13 rfl rfl)
theorem dX8_isVoided_108 : decode cX8_isVoided 108 = .ok (.imul, 1) := dk_104 (dk_at dksX8_isVoided_4 14 rfl rfl)
theorem dX8_isVoided_109 : decode cX8_isVoided 109 = .ok (.iload 4, 2) := dk_21 4 (dk_at dksX8_isVoided_4 15 rfl rfl)
theorem dX8_isVoided_111 : decode cX8_isVoided 111 = .ok (.iadd, 1) := dk_96 (dk_at dksX8_isVoided_4 17 rfl rfl)
theorem dX8_isVoided_112 : decode cX8_isVoided 112 = .ok (.iaload, 1) := dk_46 (dk_at dksX8_isVoided_4 18 rfl rfl)
theorem dX8_isVoided_113 : decode cX8_isVoided 113 = .ok (.istore 6, 2) := dk_54 6 (dk_at dksX8_isVoided_4 19 rfl rfl)
theorem dX8_isVoided_115 : decode cX8_isVoided 115 = .ok (.aload_n 0, 1) := dk_42 (dk_at dksX8_isVoided_4 21 rfl rfl)
theorem dX8_isVoided_116 : decode cX8_isVoided 116 = .ok (.iload_n 1, 1) := dk_27 (dk_at dksX8_isVoided_4 22 rfl rfl)
theorem dX8_isVoided_117 : decode cX8_isVoided 117 = .ok (.iload 5, 2) := dk_21 5 (dk_at dksX8_isVoided_5 0 rfl rfl)
theorem dX8_isVoided_119 : decode cX8_isVoided 119 = .ok (.invokevirtual 369, 3) := dk_182 1 113 (dk_at dksX8_isVoided_5 2 rfl rfl)
theorem dX8_isVoided_122 : decode cX8_isVoided 122 = .ok (.iload 6, 2) := dk_21 6 (dk_at dksX8_isVoided_5 5 rfl rfl)
theorem dX8_isVoided_124 : decode cX8_isVoided 124 = .ok (.if_icmp .gt 5, 3) := dk_163 0 5 (dk_at dksX8_isVoided_5 7 rfl rfl)
theorem dX8_isVoided_127 : decode cX8_isVoided 127 = .ok (.iconst 1, 1) := dk_4 (dk_at dksX8_isVoided_5 10 rfl rfl)
theorem dX8_isVoided_128 : decode cX8_isVoided 128 = .ok (.ireturn, 1) := dk_172 (dk_at dksX8_isVoided_5 11 rfl rfl)
theorem dX8_isVoided_129 : decode cX8_isVoided 129 = .ok (.iconst 0, 1) := dk_3 (dk_at dksX8_isVoided_5 12 rfl rfl)
theorem dX8_isVoided_130 : decode cX8_isVoided 130 = .ok (.istore 7, 2) := dk_54 7 (dk_at dksX8_isVoided_5 13 rfl rfl)
theorem dX8_isVoided_132 : decode cX8_isVoided 132 = .ok (.iload 7, 2) := dk_21 7 (dk_at dksX8_isVoided_5 15 rfl rfl)
theorem dX8_isVoided_134 : decode cX8_isVoided 134 = .ok (.aload_n 0, 1) := dk_42 (dk_at dksX8_isVoided_5 17 rfl rfl)
theorem dX8_isVoided_135 : decode cX8_isVoided 135 = .ok (.getfield 34, 3) := dk_180 0 34 (dk_at dksX8_isVoided_5 18 rfl rfl)
theorem dX8_isVoided_138 : decode cX8_isVoided 138 = .ok (.iconst 4, 1) := dk_7 (dk_at dksX8_isVoided_5 21 rfl rfl)
theorem dX8_isVoided_139 : decode cX8_isVoided 139 = .ok (.iaload, 1) := dk_46 (dk_at dksX8_isVoided_5 22 rfl rfl)
theorem dX8_isVoided_140 : decode cX8_isVoided 140 = .ok (.if_icmp .ge 66, 3) := dk_162 0 66 (dk_at dksX8_isVoided_6 0 rfl rfl)
theorem dX8_isVoided_143 : decode cX8_isVoided 143 = .ok (.iload 7, 2) := dk_21 7 (dk_at dksX8_isVoided_6 3 rfl rfl)
theorem dX8_isVoided_145 : decode cX8_isVoided 145 = .ok (.iload_n 2, 1) := dk_28 (dk_at dksX8_isVoided_6 5 rfl rfl)
theorem dX8_isVoided_146 : decode cX8_isVoided 146 = .ok (.if_icmp .eq 54, 3) := dk_159 0 54 (dk_at dksX8_isVoided_6 6 rfl rfl)
theorem dX8_isVoided_149 : decode cX8_isVoided 149 = .ok (.aload_n 0, 1) := dk_42 (dk_at dksX8_isVoided_6 9 rfl rfl)
theorem dX8_isVoided_150 : decode cX8_isVoided 150 = .ok (.getfield 106, 3) := dk_180 0 106 (dk_at dksX8_isVoided_6 10 rfl rfl)
theorem dX8_isVoided_153 : decode cX8_isVoided 153 = .ok (.iconst 5, 1) := dk_8 (dk_at dksX8_isVoided_6 13 rfl rfl)
theorem dX8_isVoided_154 : decode cX8_isVoided 154 = .ok (.iload_n 1, 1) := dk_27 (dk_at dksX8_isVoided_6 14 rfl rfl)
theorem dX8_isVoided_155 : decode cX8_isVoided 155 = .ok (.imul, 1) := dk_104 (dk_at dksX8_isVoided_6 15 rfl rfl)
theorem dX8_isVoided_156 : decode cX8_isVoided 156 = .ok (.iload 7, 2) := dk_21 7 (dk_at dksX8_isVoided_6 16 rfl rfl)
theorem dX8_isVoided_158 : decode cX8_isVoided 158 = .ok (.iadd, 1) := dk_96 (dk_at dksX8_isVoided_6 18 rfl rfl)
theorem dX8_isVoided_159 : decode cX8_isVoided 159 = .ok (.iaload, 1) := dk_46 (dk_at dksX8_isVoided_6 19 rfl rfl)
theorem dX8_isVoided_160 : decode cX8_isVoided 160 = .ok (.iconst (-1), 1) := dk_2 (dk_at dksX8_isVoided_6 20 rfl rfl)
theorem dX8_isVoided_161 : decode cX8_isVoided 161 = .ok (.if_icmp .eq 39, 3) := dk_159 0 39 (dk_at dksX8_isVoided_6 21 rfl rfl)
theorem dX8_isVoided_164 : decode cX8_isVoided 164 = .ok (.aload_n 0, 1) := dk_42 (dk_at dksX8_isVoided_7 0 rfl rfl)
theorem dX8_isVoided_165 : decode cX8_isVoided 165 = .ok (.getfield 108, 3) := dk_180 0 108 (dk_at dksX8_isVoided_7 1 rfl rfl)
theorem dX8_isVoided_168 : decode cX8_isVoided 168 = .ok (.iconst 5, 1) := dk_8 (dk_at dksX8_isVoided_7 4 rfl rfl)
theorem dX8_isVoided_169 : decode cX8_isVoided 169 = .ok (.iload_n 1, 1) := dk_27 (dk_at dksX8_isVoided_7 5 rfl rfl)
theorem dX8_isVoided_170 : decode cX8_isVoided 170 = .ok (.imul, 1) := dk_104 (dk_at dksX8_isVoided_7 6 rfl rfl)
theorem dX8_isVoided_171 : decode cX8_isVoided 171 = .ok (.iload 7, 2) := dk_21 7 (dk_at dksX8_isVoided_7 7 rfl rfl)
theorem dX8_isVoided_173 : decode cX8_isVoided 173 = .ok (.iadd, 1) := dk_96 (dk_at dksX8_isVoided_7 9 rfl rfl)
theorem dX8_isVoided_174 : decode cX8_isVoided 174 = .ok (.iaload, 1) := dk_46 (dk_at dksX8_isVoided_7 10 rfl rfl)
theorem dX8_isVoided_175 : decode cX8_isVoided 175 = .ok (.aload_n 0, 1) := dk_42 (dk_at dksX8_isVoided_7 11 rfl rfl)
theorem dX8_isVoided_176 : decode cX8_isVoided 176 = .ok (.getfield 108, 3) := dk_180 0 108 (dk_at dksX8_isVoided_7 12 rfl rfl)
theorem dX8_isVoided_179 : decode cX8_isVoided 179 = .ok (.iload_n 3, 1) := dk_29 (dk_at dksX8_isVoided_7 15 rfl rfl)
theorem dX8_isVoided_180 : decode cX8_isVoided 180 = .ok (.iaload, 1) := dk_46 (dk_at dksX8_isVoided_7 16 rfl rfl)
theorem dX8_isVoided_181 : decode cX8_isVoided 181 = .ok (.if_icmp .ge 19, 3) := dk_162 0 19 (dk_at dksX8_isVoided_7 17 rfl rfl)
theorem dX8_isVoided_184 : decode cX8_isVoided 184 = .ok (.aload_n 0, 1) := dk_42 (dk_at dksX8_isVoided_7 20 rfl rfl)
theorem dX8_isVoided_185 : decode cX8_isVoided 185 = .ok (.iload_n 1, 1) := dk_27 (dk_at dksX8_isVoided_7 21 rfl rfl)
theorem dX8_isVoided_186 : decode cX8_isVoided 186 = .ok (.iload 7, 2) := dk_21 7 (dk_at dksX8_isVoided_7 22 rfl rfl)
theorem dX8_isVoided_188 : decode cX8_isVoided 188 = .ok (.iload 5, 2) := dk_21 5 (dk_at dksX8_isVoided_8 0 rfl rfl)
theorem dX8_isVoided_190 : decode cX8_isVoided 190 = .ok (.invokevirtual 372, 3) := dk_182 1 116 (dk_at dksX8_isVoided_8 2 rfl rfl)
theorem dX8_isVoided_193 : decode cX8_isVoided 193 = .ok (.iload 6, 2) := dk_21 6 (dk_at dksX8_isVoided_8 5 rfl rfl)
theorem dX8_isVoided_195 : decode cX8_isVoided 195 = .ok (.if_icmp .gt 5, 3) := dk_163 0 5 (dk_at dksX8_isVoided_8 7 rfl rfl)
theorem dX8_isVoided_198 : decode cX8_isVoided 198 = .ok (.iconst 1, 1) := dk_4 (dk_at dksX8_isVoided_8 10 rfl rfl)
theorem dX8_isVoided_199 : decode cX8_isVoided 199 = .ok (.ireturn, 1) := dk_172 (dk_at dksX8_isVoided_8 11 rfl rfl)
theorem dX8_isVoided_200 : decode cX8_isVoided 200 = .ok (.iinc 7 1, 3) := dk_132 7 1 (dk_at dksX8_isVoided_8 12 rfl rfl)
theorem dX8_isVoided_203 : decode cX8_isVoided 203 = .ok (.goto (-71), 3) := dk_167 255 185 (dk_at dksX8_isVoided_8 15 rfl rfl)
theorem dX8_isVoided_206 : decode cX8_isVoided 206 = .ok (.iinc 4 1, 3) := dk_132 4 1 (dk_at dksX8_isVoided_8 18 rfl rfl)
theorem dX8_isVoided_209 : decode cX8_isVoided 209 = .ok (.goto (-154), 3) := dk_167 255 102 (dk_at dksX8_isVoided_8 21 rfl rfl)
theorem dX8_isVoided_212 : decode cX8_isVoided 212 = .ok (.iconst 0, 1) := dk_3 (dk_at dksX8_isVoided_9 0 rfl rfl)
theorem dX8_isVoided_213 : decode cX8_isVoided 213 = .ok (.ireturn, 1) := dk_172 (dk_at dksX8_isVoided_9 1 rfl rfl)
abbrev cX8_newsByWord : ByteArray := prog_20_method_56_code
def yX8_newsByWord : MethodName := ⟨RX8, "newsByWord", "(II)I"⟩
def dkwX8_newsByWord_2 : List UInt8 := [104, 4, 96, 46, 28, 182, 1, 110, 96, 184, 0, 187, 62, 132, 4, 1, 167, 255, 198, 29, 172]
abbrev dktX8_newsByWord_2 : List UInt8 := dkwX8_newsByWord_2 ++ []
def dkwX8_newsByWord_1 : List UInt8 := [27, 160, 0, 36, 29, 42, 180, 0, 73, 6, 21, 4, 104, 5, 96, 46, 42, 42, 180, 0, 73, 6, 21, 4]
abbrev dktX8_newsByWord_1 : List UInt8 := dkwX8_newsByWord_1 ++ dktX8_newsByWord_2
def dkwX8_newsByWord_0 : List UInt8 := [18, 186, 62, 3, 54, 4, 21, 4, 42, 180, 1, 58, 162, 0, 55, 42, 180, 0, 73, 6, 21, 4, 104, 46]
abbrev dktX8_newsByWord_0 : List UInt8 := dkwX8_newsByWord_0 ++ dktX8_newsByWord_1
theorem dksX8_newsByWord_0 : cX8_newsByWord.data.toList.drop 0 = dktX8_newsByWord_0 := by decide +kernel
theorem dksX8_newsByWord_1 : cX8_newsByWord.data.toList.drop 24 = dktX8_newsByWord_1 := dk_seg dksX8_newsByWord_0 24 rfl rfl
theorem dksX8_newsByWord_2 : cX8_newsByWord.data.toList.drop 48 = dktX8_newsByWord_2 := dk_seg dksX8_newsByWord_1 24 rfl rfl
theorem dX8_newsByWord_0 : decode cX8_newsByWord 0 = .ok (.ldc 186, 2) := dk_18 186 (dk_at dksX8_newsByWord_0 0 rfl rfl)
theorem dX8_newsByWord_2 : decode cX8_newsByWord 2 = .ok (.istore_n 3, 1) := dk_62 (dk_at dksX8_newsByWord_0 2 rfl rfl)
theorem dX8_newsByWord_3 : decode cX8_newsByWord 3 = .ok (.iconst 0, 1) := dk_3 (dk_at dksX8_newsByWord_0 3 rfl rfl)
theorem dX8_newsByWord_4 : decode cX8_newsByWord 4 = .ok (.istore 4, 2) := dk_54 4 (dk_at dksX8_newsByWord_0 4 rfl rfl)
theorem dX8_newsByWord_6 : decode cX8_newsByWord 6 = .ok (.iload 4, 2) := dk_21 4 (dk_at dksX8_newsByWord_0 6 rfl rfl)
theorem dX8_newsByWord_8 : decode cX8_newsByWord 8 = .ok (.aload_n 0, 1) := dk_42 (dk_at dksX8_newsByWord_0 8 rfl rfl)
theorem dX8_newsByWord_9 : decode cX8_newsByWord 9 = .ok (.getfield 314, 3) := dk_180 1 58 (dk_at dksX8_newsByWord_0 9 rfl rfl)
theorem dX8_newsByWord_12 : decode cX8_newsByWord 12 = .ok (.if_icmp .ge 55, 3) := dk_162 0 55 (dk_at dksX8_newsByWord_0 12 rfl rfl)
theorem dX8_newsByWord_15 : decode cX8_newsByWord 15 = .ok (.aload_n 0, 1) := dk_42 (dk_at dksX8_newsByWord_0 15 rfl rfl)
theorem dX8_newsByWord_16 : decode cX8_newsByWord 16 = .ok (.getfield 73, 3) := dk_180 0 73 (dk_at dksX8_newsByWord_0 16 rfl rfl)
theorem dX8_newsByWord_19 : decode cX8_newsByWord 19 = .ok (.iconst 3, 1) := dk_6 (dk_at dksX8_newsByWord_0 19 rfl rfl)
theorem dX8_newsByWord_20 : decode cX8_newsByWord 20 = .ok (.iload 4, 2) := dk_21 4 (dk_at dksX8_newsByWord_0 20 rfl rfl)
theorem dX8_newsByWord_22 : decode cX8_newsByWord 22 = .ok (.imul, 1) := dk_104 (dk_at dksX8_newsByWord_0 22 rfl rfl)
theorem dX8_newsByWord_23 : decode cX8_newsByWord 23 = .ok (.iaload, 1) := dk_46 (dk_at dksX8_newsByWord_0 23 rfl rfl)
theorem dX8_newsByWord_24 : decode cX8_newsByWord 24 = .ok (.iload_n 1, 1) := dk_27 (dk_at dksX8_newsByWord_1 0 rfl rfl)
theorem dX8_newsByWord_25 : decode cX8_newsByWord 25 = .ok (.if_icmp .ne 36, 3) := dk_160 0 36 (dk_at dksX8_newsByWord_1 1 rfl rfl)
theorem dX8_newsByWord_28 : decode cX8_newsByWord 28 = .ok (.iload_n 3, 1) := dk_29 (dk_at dksX8_newsByWord_1 4 rfl rfl)
theorem dX8_newsByWord_29 : decode cX8_newsByWord 29 = .ok (.aload_n 0, 1) := dk_42 (dk_at dksX8_newsByWord_1 5 rfl rfl)
theorem dX8_newsByWord_30 : decode cX8_newsByWord 30 = .ok (.getfield 73, 3) := dk_180 0 73 (dk_at dksX8_newsByWord_1 6 rfl rfl)
theorem dX8_newsByWord_33 : decode cX8_newsByWord 33 = .ok (.iconst 3, 1) := dk_6 (dk_at dksX8_newsByWord_1 9 rfl rfl)
theorem dX8_newsByWord_34 : decode cX8_newsByWord 34 = .ok (.iload 4, 2) := dk_21 4 (dk_at dksX8_newsByWord_1 10 rfl rfl)
theorem dX8_newsByWord_36 : decode cX8_newsByWord 36 = .ok (.imul, 1) := dk_104 (dk_at dksX8_newsByWord_1 12 rfl rfl)
theorem dX8_newsByWord_37 : decode cX8_newsByWord 37 = .ok (.iconst 2, 1) := dk_5 (dk_at dksX8_newsByWord_1 13 rfl rfl)
theorem dX8_newsByWord_38 : decode cX8_newsByWord 38 = .ok (.iadd, 1) := dk_96 (dk_at dksX8_newsByWord_1 14 rfl rfl)
theorem dX8_newsByWord_39 : decode cX8_newsByWord 39 = .ok (.iaload, 1) := dk_46 (dk_at dksX8_newsByWord_1 15 rfl rfl)
theorem dX8_newsByWord_40 : decode cX8_newsByWord 40 = .ok (.aload_n 0, 1) := dk_42 (dk_at dksX8_newsByWord_1 16 rfl rfl)
theorem dX8_newsByWord_41 : decode cX8_newsByWord 41 = .ok (.aload_n 0, 1) := dk_42 (dk_at dksX8_newsByWord_1 17 rfl rfl)
theorem dX8_newsByWord_42 : decode cX8_newsByWord 42 = .ok (.getfield 73, 3) := dk_180 0 73 (dk_at dksX8_newsByWord_1 18 rfl rfl)
theorem dX8_newsByWord_45 : decode cX8_newsByWord 45 = .ok (.iconst 3, 1) := dk_6 (dk_at dksX8_newsByWord_1 21 rfl rfl)
theorem dX8_newsByWord_46 : decode cX8_newsByWord 46 = .ok (.iload 4, 2) := dk_21 4 (dk_at dksX8_newsByWord_1 22 rfl rfl)
theorem dX8_newsByWord_48 : decode cX8_newsByWord 48 = .ok (.imul, 1) := dk_104 (dk_at dksX8_newsByWord_2 0 rfl rfl)
theorem dX8_newsByWord_49 : decode cX8_newsByWord 49 = .ok (.iconst 1, 1) := dk_4 (dk_at dksX8_newsByWord_2 1 rfl rfl)
theorem dX8_newsByWord_50 : decode cX8_newsByWord 50 = .ok (.iadd, 1) := dk_96 (dk_at dksX8_newsByWord_2 2 rfl rfl)
theorem dX8_newsByWord_51 : decode cX8_newsByWord 51 = .ok (.iaload, 1) := dk_46 (dk_at dksX8_newsByWord_2 3 rfl rfl)
theorem dX8_newsByWord_52 : decode cX8_newsByWord 52 = .ok (.iload_n 2, 1) := dk_28 (dk_at dksX8_newsByWord_2 4 rfl rfl)
theorem dX8_newsByWord_53 : decode cX8_newsByWord 53 = .ok (.invokevirtual 366, 3) := dk_182 1 110 (dk_at dksX8_newsByWord_2 5 rfl rfl)
theorem dX8_newsByWord_56 : decode cX8_newsByWord 56 = .ok (.iadd, 1) := dk_96 (dk_at dksX8_newsByWord_2 8 rfl rfl)
theorem dX8_newsByWord_57 : decode cX8_newsByWord 57 = .ok (.invokestatic 187, 3) := dk_184 0 187 (dk_at dksX8_newsByWord_2 9 rfl rfl)
theorem dX8_newsByWord_60 : decode cX8_newsByWord 60 = .ok (.istore_n 3, 1) := dk_62 (dk_at dksX8_newsByWord_2 12 rfl rfl)
theorem dX8_newsByWord_61 : decode cX8_newsByWord 61 = .ok (.iinc 4 1, 3) := dk_132 4 1 (dk_at dksX8_newsByWord_2 13 rfl rfl)
theorem dX8_newsByWord_64 : decode cX8_newsByWord 64 = .ok (.goto (-58), 3) := dk_167 255 198 (dk_at dksX8_newsByWord_2 16 rfl rfl)
theorem dX8_newsByWord_67 : decode cX8_newsByWord 67 = .ok (.iload_n 3, 1) := dk_29 (dk_at dksX8_newsByWord_2 19 rfl rfl)
theorem dX8_newsByWord_68 : decode cX8_newsByWord 68 = .ok (.ireturn, 1) := dk_172 (dk_at dksX8_newsByWord_2 20 rfl rfl)
abbrev cX8_newsDays : ByteArray := prog_20_method_41_code
def yX8_newsDays : MethodName := ⟨RX8, "newsDays", "(II)I"⟩
def dkwX8_newsDays_1 : List UInt8 := [180, 0, 34, 6, 46, 104, 16, 9, 96, 16, 10, 108, 172]
abbrev dktX8_newsDays_1 : List UInt8 := dkwX8_newsDays_1 ++ []
def dkwX8_newsDays_0 : List UInt8 := [42, 180, 0, 70, 27, 28, 184, 1, 20, 46, 62, 29, 18, 186, 161, 0, 8, 18, 186, 167, 0, 17, 29, 42]
abbrev dktX8_newsDays_0 : List UInt8 := dkwX8_newsDays_0 ++ dktX8_newsDays_1
theorem dksX8_newsDays_0 : cX8_newsDays.data.toList.drop 0 = dktX8_newsDays_0 := by decide +kernel
theorem dksX8_newsDays_1 : cX8_newsDays.data.toList.drop 24 = dktX8_newsDays_1 := dk_seg dksX8_newsDays_0 24 rfl rfl
theorem dX8_newsDays_0 : decode cX8_newsDays 0 = .ok (.aload_n 0, 1) := dk_42 (dk_at dksX8_newsDays_0 0 rfl rfl)
theorem dX8_newsDays_1 : decode cX8_newsDays 1 = .ok (.getfield 70, 3) := dk_180 0 70 (dk_at dksX8_newsDays_0 1 rfl rfl)
theorem dX8_newsDays_4 : decode cX8_newsDays 4 = .ok (.iload_n 1, 1) := dk_27 (dk_at dksX8_newsDays_0 4 rfl rfl)
theorem dX8_newsDays_5 : decode cX8_newsDays 5 = .ok (.iload_n 2, 1) := dk_28 (dk_at dksX8_newsDays_0 5 rfl rfl)
theorem dX8_newsDays_6 : decode cX8_newsDays 6 = .ok (.invokestatic 276, 3) := dk_184 1 20 (dk_at dksX8_newsDays_0 6 rfl rfl)
theorem dX8_newsDays_9 : decode cX8_newsDays 9 = .ok (.iaload, 1) := dk_46 (dk_at dksX8_newsDays_0 9 rfl rfl)
theorem dX8_newsDays_10 : decode cX8_newsDays 10 = .ok (.istore_n 3, 1) := dk_62 (dk_at dksX8_newsDays_0 10 rfl rfl)
theorem dX8_newsDays_11 : decode cX8_newsDays 11 = .ok (.iload_n 3, 1) := dk_29 (dk_at dksX8_newsDays_0 11 rfl rfl)
theorem dX8_newsDays_12 : decode cX8_newsDays 12 = .ok (.ldc 186, 2) := dk_18 186 (dk_at dksX8_newsDays_0 12 rfl rfl)
theorem dX8_newsDays_14 : decode cX8_newsDays 14 = .ok (.if_icmp .lt 8, 3) := dk_161 0 8 (dk_at dksX8_newsDays_0 14 rfl rfl)
theorem dX8_newsDays_17 : decode cX8_newsDays 17 = .ok (.ldc 186, 2) := dk_18 186 (dk_at dksX8_newsDays_0 17 rfl rfl)
theorem dX8_newsDays_19 : decode cX8_newsDays 19 = .ok (.goto 17, 3) := dk_167 0 17 (dk_at dksX8_newsDays_0 19 rfl rfl)
theorem dX8_newsDays_22 : decode cX8_newsDays 22 = .ok (.iload_n 3, 1) := dk_29 (dk_at dksX8_newsDays_0 22 rfl rfl)
theorem dX8_newsDays_23 : decode cX8_newsDays 23 = .ok (.aload_n 0, 1) := dk_42 (dk_at dksX8_newsDays_0 23 rfl rfl)
theorem dX8_newsDays_24 : decode cX8_newsDays 24 = .ok (.getfield 34, 3) := dk_180 0 34 (dk_at dksX8_newsDays_1 0 rfl rfl)
theorem dX8_newsDays_27 : decode cX8_newsDays 27 = .ok (.iconst 3, 1) := dk_6 (dk_at dksX8_newsDays_1 3 rfl rfl)
theorem dX8_newsDays_28 : decode cX8_newsDays 28 = .ok (.iaload, 1) := dk_46 (dk_at dksX8_newsDays_1 4 rfl rfl)
theorem dX8_newsDays_29 : decode cX8_newsDays 29 = .ok (.imul, 1) := dk_104 (dk_at dksX8_newsDays_1 5 rfl rfl)
theorem dX8_newsDays_30 : decode cX8_newsDays 30 = .ok (.bipush 9, 2) := dk_16 9 (dk_at dksX8_newsDays_1 6 rfl rfl)
theorem dX8_newsDays_32 : decode cX8_newsDays 32 = .ok (.iadd, 1) := dk_96 (dk_at dksX8_newsDays_1 8 rfl rfl)
theorem dX8_newsDays_33 : decode cX8_newsDays 33 = .ok (.bipush 10, 2) := dk_16 10 (dk_at dksX8_newsDays_1 9 rfl rfl)
theorem dX8_newsDays_35 : decode cX8_newsDays 35 = .ok (.idiv, 1) := dk_108 (dk_at dksX8_newsDays_1 11 rfl rfl)
theorem dX8_newsDays_36 : decode cX8_newsDays 36 = .ok (.ireturn, 1) := dk_172 (dk_at dksX8_newsDays_1 12 rfl rfl)
abbrev cX8_newsBy : ByteArray := prog_20_method_55_code
def yX8_newsBy : MethodName := ⟨RX8, "newsBy", "(III)I"⟩
def dkwX8_newsBy_1 : List UInt8 := [180, 0, 108, 21, 4, 46, 42, 42, 180, 0, 111, 21, 4, 46, 29, 182, 1, 110, 96, 172]
abbrev dktX8_newsBy_1 : List UInt8 := dkwX8_newsBy_1 ++ []
def dkwX8_newsBy_0 : List UInt8 := [8, 27, 104, 28, 96, 54, 4, 42, 180, 0, 106, 21, 4, 46, 2, 160, 0, 8, 18, 186, 167, 0, 23, 42]
abbrev dktX8_newsBy_0 : List UInt8 := dkwX8_newsBy_0 ++ dktX8_newsBy_1
theorem dksX8_newsBy_0 : cX8_newsBy.data.toList.drop 0 = dktX8_newsBy_0 := by decide +kernel
theorem dksX8_newsBy_1 : cX8_newsBy.data.toList.drop 24 = dktX8_newsBy_1 := dk_seg dksX8_newsBy_0 24 rfl rfl
theorem dX8_newsBy_0 : decode cX8_newsBy 0 = .ok (.iconst 5, 1) := dk_8 (dk_at dksX8_newsBy_0 0 rfl rfl)
theorem dX8_newsBy_1 : decode cX8_newsBy 1 = .ok (.iload_n 1, 1) := dk_27 (dk_at dksX8_newsBy_0 1 rfl rfl)
theorem dX8_newsBy_2 : decode cX8_newsBy 2 = .ok (.imul, 1) := dk_104 (dk_at dksX8_newsBy_0 2 rfl rfl)
theorem dX8_newsBy_3 : decode cX8_newsBy 3 = .ok (.iload_n 2, 1) := dk_28 (dk_at dksX8_newsBy_0 3 rfl rfl)
theorem dX8_newsBy_4 : decode cX8_newsBy 4 = .ok (.iadd, 1) := dk_96 (dk_at dksX8_newsBy_0 4 rfl rfl)
theorem dX8_newsBy_5 : decode cX8_newsBy 5 = .ok (.istore 4, 2) := dk_54 4 (dk_at dksX8_newsBy_0 5 rfl rfl)
theorem dX8_newsBy_7 : decode cX8_newsBy 7 = .ok (.aload_n 0, 1) := dk_42 (dk_at dksX8_newsBy_0 7 rfl rfl)
theorem dX8_newsBy_8 : decode cX8_newsBy 8 = .ok (.getfield 106, 3) := dk_180 0 106 (dk_at dksX8_newsBy_0 8 rfl rfl)
theorem dX8_newsBy_11 : decode cX8_newsBy 11 = .ok (.iload 4, 2) := dk_21 4 (dk_at dksX8_newsBy_0 11 rfl rfl)
theorem dX8_newsBy_13 : decode cX8_newsBy 13 = .ok (.iaload, 1) := dk_46 (dk_at dksX8_newsBy_0 13 rfl rfl)
theorem dX8_newsBy_14 : decode cX8_newsBy 14 = .ok (.iconst (-1), 1) := dk_2 (dk_at dksX8_newsBy_0 14 rfl rfl)
theorem dX8_newsBy_15 : decode cX8_newsBy 15 = .ok (.if_icmp .ne 8, 3) := dk_160 0 8 (dk_at dksX8_newsBy_0 15 rfl rfl)
theorem dX8_newsBy_18 : decode cX8_newsBy 18 = .ok (.ldc 186, 2) := dk_18 186 (dk_at dksX8_newsBy_0 18 rfl rfl)
theorem dX8_newsBy_20 : decode cX8_newsBy 20 = .ok (.goto 23, 3) := dk_167 0 23 (dk_at dksX8_newsBy_0 20 rfl rfl)
theorem dX8_newsBy_23 : decode cX8_newsBy 23 = .ok (.aload_n 0, 1) := dk_42 (dk_at dksX8_newsBy_0 23 rfl rfl)
theorem dX8_newsBy_24 : decode cX8_newsBy 24 = .ok (.getfield 108, 3) := dk_180 0 108 (dk_at dksX8_newsBy_1 0 rfl rfl)
theorem dX8_newsBy_27 : decode cX8_newsBy 27 = .ok (.iload 4, 2) := dk_21 4 (dk_at dksX8_newsBy_1 3 rfl rfl)
theorem dX8_newsBy_29 : decode cX8_newsBy 29 = .ok (.iaload, 1) := dk_46 (dk_at dksX8_newsBy_1 5 rfl rfl)
theorem dX8_newsBy_30 : decode cX8_newsBy 30 = .ok (.aload_n 0, 1) := dk_42 (dk_at dksX8_newsBy_1 6 rfl rfl)
theorem dX8_newsBy_31 : decode cX8_newsBy 31 = .ok (.aload_n 0, 1) := dk_42 (dk_at dksX8_newsBy_1 7 rfl rfl)
theorem dX8_newsBy_32 : decode cX8_newsBy 32 = .ok (.getfield 111, 3) := dk_180 0 111 (dk_at dksX8_newsBy_1 8 rfl rfl)
theorem dX8_newsBy_35 : decode cX8_newsBy 35 = .ok (.iload 4, 2) := dk_21 4 (dk_at dksX8_newsBy_1 11 rfl rfl)
theorem dX8_newsBy_37 : decode cX8_newsBy 37 = .ok (.iaload, 1) := dk_46 (dk_at dksX8_newsBy_1 13 rfl rfl)
theorem dX8_newsBy_38 : decode cX8_newsBy 38 = .ok (.iload_n 3, 1) := dk_29 (dk_at dksX8_newsBy_1 14 rfl rfl)
theorem dX8_newsBy_39 : decode cX8_newsBy 39 = .ok (.invokevirtual 366, 3) := dk_182 1 110 (dk_at dksX8_newsBy_1 15 rfl rfl)
theorem dX8_newsBy_42 : decode cX8_newsBy 42 = .ok (.iadd, 1) := dk_96 (dk_at dksX8_newsBy_1 18 rfl rfl)
theorem dX8_newsBy_43 : decode cX8_newsBy 43 = .ok (.ireturn, 1) := dk_172 (dk_at dksX8_newsBy_1 19 rfl rfl)
abbrev cX8_three : ByteArray := prog_20_method_59_code
def yX8_three : MethodName := ⟨RX8, "three", "(IIII)I"⟩
def dkwX8_three_7 : List UInt8 := [180, 0, 97, 8, 29, 104, 21, 4, 96, 46, 21, 8, 164, 0, 8, 21, 8, 167, 0, 5, 18, 186, 172]
abbrev dktX8_three_7 : List UInt8 := dkwX8_three_7 ++ []
def dkwX8_three_6 : List UInt8 := [21, 8, 164, 0, 40, 42, 180, 0, 97, 8, 28, 104, 21, 4, 96, 46, 21, 8, 164, 0, 24, 42]
abbrev dktX8_three_6 : List UInt8 := dkwX8_three_6 ++ dktX8_three_7
def dkwX8_three_5 : List UInt8 := [180, 0, 108, 21, 7, 46, 184, 1, 122, 184, 1, 122, 54, 8, 42, 180, 0, 97, 8, 28, 104, 29, 96, 46]
abbrev dktX8_three_5 : List UInt8 := dkwX8_three_5 ++ dktX8_three_6
def dkwX8_three_4 : List UInt8 := [21, 7, 46, 160, 0, 6, 18, 186, 172, 42, 180, 0, 108, 21, 5, 46, 42, 180, 0, 108, 21, 6, 46, 42]
abbrev dktX8_three_4 : List UInt8 := dkwX8_three_4 ++ dktX8_three_5
def dkwX8_three_3 : List UInt8 := [21, 5, 46, 42, 180, 0, 111, 21, 7, 46, 159, 0, 20, 42, 180, 0, 111, 21, 6, 46, 42, 180, 0, 111]
abbrev dktX8_three_3 : List UInt8 := dkwX8_three_3 ++ dktX8_three_4
def dkwX8_three_2 : List UInt8 := [153, 0, 54, 42, 180, 0, 111, 21, 5, 46, 42, 180, 0, 111, 21, 6, 46, 159, 0, 37, 42, 180, 0, 111]
abbrev dktX8_three_2 : List UInt8 := dkwX8_three_2 ++ dktX8_three_3
def dkwX8_three_1 : List UInt8 := [28, 182, 1, 119, 153, 0, 73, 42, 27, 29, 182, 1, 119, 153, 0, 64, 42, 27, 21, 4, 182, 1, 119]
abbrev dktX8_three_1 : List UInt8 := dkwX8_three_1 ++ dktX8_three_2
def dkwX8_three_0 : List UInt8 := [8, 27, 104, 28, 96, 54, 5, 8, 27, 104, 29, 96, 54, 6, 8, 27, 104, 21, 4, 96, 54, 7, 42, 27]
abbrev dktX8_three_0 : List UInt8 := dkwX8_three_0 ++ dktX8_three_1
theorem dksX8_three_0 : cX8_three.data.toList.drop 0 = dktX8_three_0 := by decide +kernel
theorem dksX8_three_1 : cX8_three.data.toList.drop 24 = dktX8_three_1 := dk_seg dksX8_three_0 24 rfl rfl
theorem dksX8_three_2 : cX8_three.data.toList.drop 47 = dktX8_three_2 := dk_seg dksX8_three_1 23 rfl rfl
theorem dksX8_three_3 : cX8_three.data.toList.drop 71 = dktX8_three_3 := dk_seg dksX8_three_2 24 rfl rfl
theorem dksX8_three_4 : cX8_three.data.toList.drop 95 = dktX8_three_4 := dk_seg dksX8_three_3 24 rfl rfl
theorem dksX8_three_5 : cX8_three.data.toList.drop 119 = dktX8_three_5 := dk_seg dksX8_three_4 24 rfl rfl
theorem dksX8_three_6 : cX8_three.data.toList.drop 143 = dktX8_three_6 := dk_seg dksX8_three_5 24 rfl rfl
theorem dksX8_three_7 : cX8_three.data.toList.drop 165 = dktX8_three_7 := dk_seg dksX8_three_6 22 rfl rfl
theorem dX8_three_0 : decode cX8_three 0 = .ok (.iconst 5, 1) := dk_8 (dk_at dksX8_three_0 0 rfl rfl)
theorem dX8_three_1 : decode cX8_three 1 = .ok (.iload_n 1, 1) := dk_27 (dk_at dksX8_three_0 1 rfl rfl)
theorem dX8_three_2 : decode cX8_three 2 = .ok (.imul, 1) := dk_104 (dk_at dksX8_three_0 2 rfl rfl)
theorem dX8_three_3 : decode cX8_three 3 = .ok (.iload_n 2, 1) := dk_28 (dk_at dksX8_three_0 3 rfl rfl)
theorem dX8_three_4 : decode cX8_three 4 = .ok (.iadd, 1) := dk_96 (dk_at dksX8_three_0 4 rfl rfl)
theorem dX8_three_5 : decode cX8_three 5 = .ok (.istore 5, 2) := dk_54 5 (dk_at dksX8_three_0 5 rfl rfl)
theorem dX8_three_7 : decode cX8_three 7 = .ok (.iconst 5, 1) := dk_8 (dk_at dksX8_three_0 7 rfl rfl)
theorem dX8_three_8 : decode cX8_three 8 = .ok (.iload_n 1, 1) := dk_27 (dk_at dksX8_three_0 8 rfl rfl)
theorem dX8_three_9 : decode cX8_three 9 = .ok (.imul, 1) := dk_104 (dk_at dksX8_three_0 9 rfl rfl)
theorem dX8_three_10 : decode cX8_three 10 = .ok (.iload_n 3, 1) := dk_29 (dk_at dksX8_three_0 10 rfl rfl)
theorem dX8_three_11 : decode cX8_three 11 = .ok (.iadd, 1) := dk_96 (dk_at dksX8_three_0 11 rfl rfl)
theorem dX8_three_12 : decode cX8_three 12 = .ok (.istore 6, 2) := dk_54 6 (dk_at dksX8_three_0 12 rfl rfl)
theorem dX8_three_14 : decode cX8_three 14 = .ok (.iconst 5, 1) := dk_8 (dk_at dksX8_three_0 14 rfl rfl)
theorem dX8_three_15 : decode cX8_three 15 = .ok (.iload_n 1, 1) := dk_27 (dk_at dksX8_three_0 15 rfl rfl)
theorem dX8_three_16 : decode cX8_three 16 = .ok (.imul, 1) := dk_104 (dk_at dksX8_three_0 16 rfl rfl)
theorem dX8_three_17 : decode cX8_three 17 = .ok (.iload 4, 2) := dk_21 4 (dk_at dksX8_three_0 17 rfl rfl)
theorem dX8_three_19 : decode cX8_three 19 = .ok (.iadd, 1) := dk_96 (dk_at dksX8_three_0 19 rfl rfl)
theorem dX8_three_20 : decode cX8_three 20 = .ok (.istore 7, 2) := dk_54 7 (dk_at dksX8_three_0 20 rfl rfl)
theorem dX8_three_22 : decode cX8_three 22 = .ok (.aload_n 0, 1) := dk_42 (dk_at dksX8_three_0 22 rfl rfl)
theorem dX8_three_23 : decode cX8_three 23 = .ok (.iload_n 1, 1) := dk_27 (dk_at dksX8_three_0 23 rfl rfl)
theorem dX8_three_24 : decode cX8_three 24 = .ok (.iload_n 2, 1) := dk_28 (dk_at dksX8_three_1 0 rfl rfl)
theorem dX8_three_25 : decode cX8_three 25 = .ok (.invokevirtual 375, 3) := dk_182 1 119 (dk_at dksX8_three_1 1 rfl rfl)
theorem dX8_three_28 : decode cX8_three 28 = .ok (.ifCond .eq 73, 3) := dk_153 0 73 (dk_at dksX8_three_1 4 rfl rfl)
theorem dX8_three_31 : decode cX8_three 31 = .ok (.aload_n 0, 1) := dk_42 (dk_at dksX8_three_1 7 rfl rfl)
theorem dX8_three_32 : decode cX8_three 32 = .ok (.iload_n 1, 1) := dk_27 (dk_at dksX8_three_1 8 rfl rfl)
theorem dX8_three_33 : decode cX8_three 33 = .ok (.iload_n 3, 1) := dk_29 (dk_at dksX8_three_1 9 rfl rfl)
theorem dX8_three_34 : decode cX8_three 34 = .ok (.invokevirtual 375, 3) := dk_182 1 119 (dk_at dksX8_three_1 10 rfl rfl)
theorem dX8_three_37 : decode cX8_three 37 = .ok (.ifCond .eq 64, 3) := dk_153 0 64 (dk_at dksX8_three_1 13 rfl rfl)
theorem dX8_three_40 : decode cX8_three 40 = .ok (.aload_n 0, 1) := dk_42 (dk_at dksX8_three_1 16 rfl rfl)
theorem dX8_three_41 : decode cX8_three 41 = .ok (.iload_n 1, 1) := dk_27 (dk_at dksX8_three_1 17 rfl rfl)
theorem dX8_three_42 : decode cX8_three 42 = .ok (.iload 4, 2) := dk_21 4 (dk_at dksX8_three_1 18 rfl rfl)
theorem dX8_three_44 : decode cX8_three 44 = .ok (.invokevirtual 375, 3) := dk_182 1 119 (dk_at dksX8_three_1 20 rfl rfl)
theorem dX8_three_47 : decode cX8_three 47 = .ok (.ifCond .eq 54, 3) := dk_153 0 54 (dk_at dksX8_three_2 0 rfl rfl)
theorem dX8_three_50 : decode cX8_three 50 = .ok (.aload_n 0, 1) := dk_42 (dk_at dksX8_three_2 3 rfl rfl)
theorem dX8_three_51 : decode cX8_three 51 = .ok (.getfield 111, 3) := dk_180 0 111 (dk_at dksX8_three_2 4 rfl rfl)
theorem dX8_three_54 : decode cX8_three 54 = .ok (.iload 5, 2) := dk_21 5 (dk_at dksX8_three_2 7 rfl rfl)
theorem dX8_three_56 : decode cX8_three 56 = .ok (.iaload, 1) := dk_46 (dk_at dksX8_three_2 9 rfl rfl)
theorem dX8_three_57 : decode cX8_three 57 = .ok (.aload_n 0, 1) := dk_42 (dk_at dksX8_three_2 10 rfl rfl)
theorem dX8_three_58 : decode cX8_three 58 = .ok (.getfield 111, 3) := dk_180 0 111 (dk_at dksX8_three_2 11 rfl rfl)
theorem dX8_three_61 : decode cX8_three 61 = .ok (.iload 6, 2) := dk_21 6 (dk_at dksX8_three_2 14 rfl rfl)
theorem dX8_three_63 : decode cX8_three 63 = .ok (.iaload, 1) := dk_46 (dk_at dksX8_three_2 16 rfl rfl)
theorem dX8_three_64 : decode cX8_three 64 = .ok (.if_icmp .eq 37, 3) := dk_159 0 37 (dk_at dksX8_three_2 17 rfl rfl)
theorem dX8_three_67 : decode cX8_three 67 = .ok (.aload_n 0, 1) := dk_42 (dk_at dksX8_three_2 20 rfl rfl)
theorem dX8_three_68 : decode cX8_three 68 = .ok (.getfield 111, 3) := dk_180 0 111 (dk_at dksX8_three_2 21 rfl rfl)
theorem dX8_three_71 : decode cX8_three 71 = .ok (.iload 5, 2) := dk_21 5 (dk_at dksX8_three_3 0 rfl rfl)
theorem dX8_three_73 : decode cX8_three 73 = .ok (.iaload, 1) := dk_46 (dk_at dksX8_three_3 2 rfl rfl)
theorem dX8_three_74 : decode cX8_three 74 = .ok (.aload_n 0, 1) := dk_42 (dk_at dksX8_three_3 3 rfl rfl)
theorem dX8_three_75 : decode cX8_three 75 = .ok (.getfield 111, 3) := dk_180 0 111 (dk_at dksX8_three_3 4 rfl rfl)
theorem dX8_three_78 : decode cX8_three 78 = .ok (.iload 7, 2) := dk_21 7 (dk_at dksX8_three_3 7 rfl rfl)
theorem dX8_three_80 : decode cX8_three 80 = .ok (.iaload, 1) := dk_46 (dk_at dksX8_three_3 9 rfl rfl)
theorem dX8_three_81 : decode cX8_three 81 = .ok (.if_icmp .eq 20, 3) := dk_159 0 20 (dk_at dksX8_three_3 10 rfl rfl)
theorem dX8_three_84 : decode cX8_three 84 = .ok (.aload_n 0, 1) := dk_42 (dk_at dksX8_three_3 13 rfl rfl)
theorem dX8_three_85 : decode cX8_three 85 = .ok (.getfield 111, 3) := dk_180 0 111 (dk_at dksX8_three_3 14 rfl rfl)
theorem dX8_three_88 : decode cX8_three 88 = .ok (.iload 6, 2) := dk_21 6 (dk_at dksX8_three_3 17 rfl rfl)
theorem dX8_three_90 : decode cX8_three 90 = .ok (.iaload, 1) := dk_46 (dk_at dksX8_three_3 19 rfl rfl)
theorem dX8_three_91 : decode cX8_three 91 = .ok (.aload_n 0, 1) := dk_42 (dk_at dksX8_three_3 20 rfl rfl)
theorem dX8_three_92 : decode cX8_three 92 = .ok (.getfield 111, 3) := dk_180 0 111 (dk_at dksX8_three_3 21 rfl rfl)
theorem dX8_three_95 : decode cX8_three 95 = .ok (.iload 7, 2) := dk_21 7 (dk_at dksX8_three_4 0 rfl rfl)
theorem dX8_three_97 : decode cX8_three 97 = .ok (.iaload, 1) := dk_46 (dk_at dksX8_three_4 2 rfl rfl)
theorem dX8_three_98 : decode cX8_three 98 = .ok (.if_icmp .ne 6, 3) := dk_160 0 6 (dk_at dksX8_three_4 3 rfl rfl)
theorem dX8_three_101 : decode cX8_three 101 = .ok (.ldc 186, 2) := dk_18 186 (dk_at dksX8_three_4 6 rfl rfl)
theorem dX8_three_103 : decode cX8_three 103 = .ok (.ireturn, 1) := dk_172 (dk_at dksX8_three_4 8 rfl rfl)
theorem dX8_three_104 : decode cX8_three 104 = .ok (.aload_n 0, 1) := dk_42 (dk_at dksX8_three_4 9 rfl rfl)
theorem dX8_three_105 : decode cX8_three 105 = .ok (.getfield 108, 3) := dk_180 0 108 (dk_at dksX8_three_4 10 rfl rfl)
theorem dX8_three_108 : decode cX8_three 108 = .ok (.iload 5, 2) := dk_21 5 (dk_at dksX8_three_4 13 rfl rfl)
theorem dX8_three_110 : decode cX8_three 110 = .ok (.iaload, 1) := dk_46 (dk_at dksX8_three_4 15 rfl rfl)
theorem dX8_three_111 : decode cX8_three 111 = .ok (.aload_n 0, 1) := dk_42 (dk_at dksX8_three_4 16 rfl rfl)
theorem dX8_three_112 : decode cX8_three 112 = .ok (.getfield 108, 3) := dk_180 0 108 (dk_at dksX8_three_4 17 rfl rfl)
theorem dX8_three_115 : decode cX8_three 115 = .ok (.iload 6, 2) := dk_21 6 (dk_at dksX8_three_4 20 rfl rfl)
theorem dX8_three_117 : decode cX8_three 117 = .ok (.iaload, 1) := dk_46 (dk_at dksX8_three_4 22 rfl rfl)
theorem dX8_three_118 : decode cX8_three 118 = .ok (.aload_n 0, 1) := dk_42 (dk_at dksX8_three_4 23 rfl rfl)
theorem dX8_three_119 : decode cX8_three 119 = .ok (.getfield 108, 3) := dk_180 0 108 (dk_at dksX8_three_5 0 rfl rfl)
theorem dX8_three_122 : decode cX8_three 122 = .ok (.iload 7, 2) := dk_21 7 (dk_at dksX8_three_5 3 rfl rfl)
theorem dX8_three_124 : decode cX8_three 124 = .ok (.iaload, 1) := dk_46 (dk_at dksX8_three_5 5 rfl rfl)
theorem dX8_three_125 : decode cX8_three 125 = .ok (.invokestatic 378, 3) := dk_184 1 122 (dk_at dksX8_three_5 6 rfl rfl)
theorem dX8_three_128 : decode cX8_three 128 = .ok (.invokestatic 378, 3) := dk_184 1 122 (dk_at dksX8_three_5 9 rfl rfl)
theorem dX8_three_131 : decode cX8_three 131 = .ok (.istore 8, 2) := dk_54 8 (dk_at dksX8_three_5 12 rfl rfl)
theorem dX8_three_133 : decode cX8_three 133 = .ok (.aload_n 0, 1) := dk_42 (dk_at dksX8_three_5 14 rfl rfl)
theorem dX8_three_134 : decode cX8_three 134 = .ok (.getfield 97, 3) := dk_180 0 97 (dk_at dksX8_three_5 15 rfl rfl)
theorem dX8_three_137 : decode cX8_three 137 = .ok (.iconst 5, 1) := dk_8 (dk_at dksX8_three_5 18 rfl rfl)
theorem dX8_three_138 : decode cX8_three 138 = .ok (.iload_n 2, 1) := dk_28 (dk_at dksX8_three_5 19 rfl rfl)
theorem dX8_three_139 : decode cX8_three 139 = .ok (.imul, 1) := dk_104 (dk_at dksX8_three_5 20 rfl rfl)
theorem dX8_three_140 : decode cX8_three 140 = .ok (.iload_n 3, 1) := dk_29 (dk_at dksX8_three_5 21 rfl rfl)
theorem dX8_three_141 : decode cX8_three 141 = .ok (.iadd, 1) := dk_96 (dk_at dksX8_three_5 22 rfl rfl)
theorem dX8_three_142 : decode cX8_three 142 = .ok (.iaload, 1) := dk_46 (dk_at dksX8_three_5 23 rfl rfl)
theorem dX8_three_143 : decode cX8_three 143 = .ok (.iload 8, 2) := dk_21 8 (dk_at dksX8_three_6 0 rfl rfl)
theorem dX8_three_145 : decode cX8_three 145 = .ok (.if_icmp .le 40, 3) := dk_164 0 40 (dk_at dksX8_three_6 2 rfl rfl)
theorem dX8_three_148 : decode cX8_three 148 = .ok (.aload_n 0, 1) := dk_42 (dk_at dksX8_three_6 5 rfl rfl)
theorem dX8_three_149 : decode cX8_three 149 = .ok (.getfield 97, 3) := dk_180 0 97 (dk_at dksX8_three_6 6 rfl rfl)
theorem dX8_three_152 : decode cX8_three 152 = .ok (.iconst 5, 1) := dk_8 (dk_at dksX8_three_6 9 rfl rfl)
theorem dX8_three_153 : decode cX8_three 153 = .ok (.iload_n 2, 1) := dk_28 (dk_at dksX8_three_6 10 rfl rfl)
theorem dX8_three_154 : decode cX8_three 154 = .ok (.imul, 1) := dk_104 (dk_at dksX8_three_6 11 rfl rfl)
theorem dX8_three_155 : decode cX8_three 155 = .ok (.iload 4, 2) := dk_21 4 (dk_at dksX8_three_6 12 rfl rfl)
theorem dX8_three_157 : decode cX8_three 157 = .ok (.iadd, 1) := dk_96 (dk_at dksX8_three_6 14 rfl rfl)
theorem dX8_three_158 : decode cX8_three 158 = .ok (.iaload, 1) := dk_46 (dk_at dksX8_three_6 15 rfl rfl)
theorem dX8_three_159 : decode cX8_three 159 = .ok (.iload 8, 2) := dk_21 8 (dk_at dksX8_three_6 16 rfl rfl)
theorem dX8_three_161 : decode cX8_three 161 = .ok (.if_icmp .le 24, 3) := dk_164 0 24 (dk_at dksX8_three_6 18 rfl rfl)
theorem dX8_three_164 : decode cX8_three 164 = .ok (.aload_n 0, 1) := dk_42 (dk_at dksX8_three_6 21 rfl rfl)
theorem dX8_three_165 : decode cX8_three 165 = .ok (.getfield 97, 3) := dk_180 0 97 (dk_at dksX8_three_7 0 rfl rfl)
theorem dX8_three_168 : decode cX8_three 168 = .ok (.iconst 5, 1) := dk_8 (dk_at dksX8_three_7 3 rfl rfl)
theorem dX8_three_169 : decode cX8_three 169 = .ok (.iload_n 3, 1) := dk_29 (dk_at dksX8_three_7 4 rfl rfl)
theorem dX8_three_170 : decode cX8_three 170 = .ok (.imul, 1) := dk_104 (dk_at dksX8_three_7 5 rfl rfl)
theorem dX8_three_171 : decode cX8_three 171 = .ok (.iload 4, 2) := dk_21 4 (dk_at dksX8_three_7 6 rfl rfl)
theorem dX8_three_173 : decode cX8_three 173 = .ok (.iadd, 1) := dk_96 (dk_at dksX8_three_7 8 rfl rfl)
theorem dX8_three_174 : decode cX8_three 174 = .ok (.iaload, 1) := dk_46 (dk_at dksX8_three_7 9 rfl rfl)
theorem dX8_three_175 : decode cX8_three 175 = .ok (.iload 8, 2) := dk_21 8 (dk_at dksX8_three_7 10 rfl rfl)
theorem dX8_three_177 : decode cX8_three 177 = .ok (.if_icmp .le 8, 3) := dk_164 0 8 (dk_at dksX8_three_7 12 rfl rfl)
theorem dX8_three_180 : decode cX8_three 180 = .ok (.iload 8, 2) := dk_21 8 (dk_at dksX8_three_7 15 rfl rfl)
theorem dX8_three_182 : decode cX8_three 182 = .ok (.goto 5, 3) := dk_167 0 5 (dk_at dksX8_three_7 17 rfl rfl)
theorem dX8_three_185 : decode cX8_three 185 = .ok (.ldc 186, 2) := dk_18 186 (dk_at dksX8_three_7 20 rfl rfl)
theorem dX8_three_187 : decode cX8_three 187 = .ok (.ireturn, 1) := dk_172 (dk_at dksX8_three_7 22 rfl rfl)
abbrev cX8_isGood : ByteArray := prog_20_method_58_code
def yX8_isGood : MethodName := ⟨RX8, "isGood", "(II)Z"⟩
def dkwX8_isGood_1 : List UInt8 := [154, 0, 7, 4, 167, 0, 4, 3, 172]
abbrev dktX8_isGood_1 : List UInt8 := dkwX8_isGood_1 ++ []
def dkwX8_isGood_0 : List UInt8 := [8, 27, 104, 28, 96, 62, 42, 180, 0, 106, 29, 46, 4, 160, 0, 16, 42, 180, 0, 114, 29, 46]
abbrev dktX8_isGood_0 : List UInt8 := dkwX8_isGood_0 ++ dktX8_isGood_1
theorem dksX8_isGood_0 : cX8_isGood.data.toList.drop 0 = dktX8_isGood_0 := by decide +kernel
theorem dksX8_isGood_1 : cX8_isGood.data.toList.drop 22 = dktX8_isGood_1 := dk_seg dksX8_isGood_0 22 rfl rfl
theorem dX8_isGood_0 : decode cX8_isGood 0 = .ok (.iconst 5, 1) := dk_8 (dk_at dksX8_isGood_0 0 rfl rfl)
theorem dX8_isGood_1 : decode cX8_isGood 1 = .ok (.iload_n 1, 1) := dk_27 (dk_at dksX8_isGood_0 1 rfl rfl)
theorem dX8_isGood_2 : decode cX8_isGood 2 = .ok (.imul, 1) := dk_104 (dk_at dksX8_isGood_0 2 rfl rfl)
theorem dX8_isGood_3 : decode cX8_isGood 3 = .ok (.iload_n 2, 1) := dk_28 (dk_at dksX8_isGood_0 3 rfl rfl)
theorem dX8_isGood_4 : decode cX8_isGood 4 = .ok (.iadd, 1) := dk_96 (dk_at dksX8_isGood_0 4 rfl rfl)
theorem dX8_isGood_5 : decode cX8_isGood 5 = .ok (.istore_n 3, 1) := dk_62 (dk_at dksX8_isGood_0 5 rfl rfl)
theorem dX8_isGood_6 : decode cX8_isGood 6 = .ok (.aload_n 0, 1) := dk_42 (dk_at dksX8_isGood_0 6 rfl rfl)
theorem dX8_isGood_7 : decode cX8_isGood 7 = .ok (.getfield 106, 3) := dk_180 0 106 (dk_at dksX8_isGood_0 7 rfl rfl)
theorem dX8_isGood_10 : decode cX8_isGood 10 = .ok (.iload_n 3, 1) := dk_29 (dk_at dksX8_isGood_0 10 rfl rfl)
theorem dX8_isGood_11 : decode cX8_isGood 11 = .ok (.iaload, 1) := dk_46 (dk_at dksX8_isGood_0 11 rfl rfl)
theorem dX8_isGood_12 : decode cX8_isGood 12 = .ok (.iconst 1, 1) := dk_4 (dk_at dksX8_isGood_0 12 rfl rfl)
theorem dX8_isGood_13 : decode cX8_isGood 13 = .ok (.if_icmp .ne 16, 3) := dk_160 0 16 (dk_at dksX8_isGood_0 13 rfl rfl)
theorem dX8_isGood_16 : decode cX8_isGood 16 = .ok (.aload_n 0, 1) := dk_42 (dk_at dksX8_isGood_0 16 rfl rfl)
theorem dX8_isGood_17 : decode cX8_isGood 17 = .ok (.getfield 114, 3) := dk_180 0 114 (dk_at dksX8_isGood_0 17 rfl rfl)
theorem dX8_isGood_20 : decode cX8_isGood 20 = .ok (.iload_n 3, 1) := dk_29 (dk_at dksX8_isGood_0 20 rfl rfl)
theorem dX8_isGood_21 : decode cX8_isGood 21 = .ok (.iaload, 1) := dk_46 (dk_at dksX8_isGood_0 21 rfl rfl)
theorem dX8_isGood_22 : decode cX8_isGood 22 = .ok (.ifCond .ne 7, 3) := dk_154 0 7 (dk_at dksX8_isGood_1 0 rfl rfl)
theorem dX8_isGood_25 : decode cX8_isGood 25 = .ok (.iconst 1, 1) := dk_4 (dk_at dksX8_isGood_1 3 rfl rfl)
theorem dX8_isGood_26 : decode cX8_isGood 26 = .ok (.goto 4, 3) := dk_167 0 4 (dk_at dksX8_isGood_1 4 rfl rfl)
theorem dX8_isGood_29 : decode cX8_isGood 29 = .ok (.iconst 0, 1) := dk_3 (dk_at dksX8_isGood_1 7 rfl rfl)
theorem dX8_isGood_30 : decode cX8_isGood 30 = .ok (.ireturn, 1) := dk_172 (dk_at dksX8_isGood_1 8 rfl rfl)
abbrev cX8_far : ByteArray := prog_20_method_67_code
def yX8_far : MethodName := ⟨RX8, "far", "(III)I"⟩
def dkwX8_far_2 : List UInt8 := [184, 1, 20, 46, 167, 0, 9, 42, 27, 28, 182, 1, 110, 184, 1, 160, 172]
abbrev dktX8_far_2 : List UInt8 := dkwX8_far_2 ++ []
def dkwX8_far_1 : List UInt8 := [155, 0, 8, 29, 4, 164, 0, 9, 42, 4, 182, 1, 42, 172, 29, 154, 0, 16, 42, 180, 0, 70, 27, 28]
abbrev dktX8_far_1 : List UInt8 := dkwX8_far_1 ++ dktX8_far_2
def dkwX8_far_0 : List UInt8 := [42, 3, 181, 0, 150, 42, 27, 182, 1, 157, 153, 0, 20, 42, 28, 182, 1, 157, 153, 0, 12, 29]
abbrev dktX8_far_0 : List UInt8 := dkwX8_far_0 ++ dktX8_far_1
theorem dksX8_far_0 : cX8_far.data.toList.drop 0 = dktX8_far_0 := by decide +kernel
theorem dksX8_far_1 : cX8_far.data.toList.drop 22 = dktX8_far_1 := dk_seg dksX8_far_0 22 rfl rfl
theorem dksX8_far_2 : cX8_far.data.toList.drop 46 = dktX8_far_2 := dk_seg dksX8_far_1 24 rfl rfl
theorem dX8_far_0 : decode cX8_far 0 = .ok (.aload_n 0, 1) := dk_42 (dk_at dksX8_far_0 0 rfl rfl)
theorem dX8_far_1 : decode cX8_far 1 = .ok (.iconst 0, 1) := dk_3 (dk_at dksX8_far_0 1 rfl rfl)
theorem dX8_far_2 : decode cX8_far 2 = .ok (.putfield 150, 3) := dk_181 0 150 (dk_at dksX8_far_0 2 rfl rfl)
theorem dX8_far_5 : decode cX8_far 5 = .ok (.aload_n 0, 1) := dk_42 (dk_at dksX8_far_0 5 rfl rfl)
theorem dX8_far_6 : decode cX8_far 6 = .ok (.iload_n 1, 1) := dk_27 (dk_at dksX8_far_0 6 rfl rfl)
theorem dX8_far_7 : decode cX8_far 7 = .ok (.invokevirtual 413, 3) := dk_182 1 157 (dk_at dksX8_far_0 7 rfl rfl)
theorem dX8_far_10 : decode cX8_far 10 = .ok (.ifCond .eq 20, 3) := dk_153 0 20 (dk_at dksX8_far_0 10 rfl rfl)
theorem dX8_far_13 : decode cX8_far 13 = .ok (.aload_n 0, 1) := dk_42 (dk_at dksX8_far_0 13 rfl rfl)
theorem dX8_far_14 : decode cX8_far 14 = .ok (.iload_n 2, 1) := dk_28 (dk_at dksX8_far_0 14 rfl rfl)
theorem dX8_far_15 : decode cX8_far 15 = .ok (.invokevirtual 413, 3) := dk_182 1 157 (dk_at dksX8_far_0 15 rfl rfl)
theorem dX8_far_18 : decode cX8_far 18 = .ok (.ifCond .eq 12, 3) := dk_153 0 12 (dk_at dksX8_far_0 18 rfl rfl)
theorem dX8_far_21 : decode cX8_far 21 = .ok (.iload_n 3, 1) := dk_29 (dk_at dksX8_far_0 21 rfl rfl)
theorem dX8_far_22 : decode cX8_far 22 = .ok (.ifCond .lt 8, 3) := dk_155 0 8 (dk_at dksX8_far_1 0 rfl rfl)
theorem dX8_far_25 : decode cX8_far 25 = .ok (.iload_n 3, 1) := dk_29 (dk_at dksX8_far_1 3 rfl rfl)
theorem dX8_far_26 : decode cX8_far 26 = .ok (.iconst 1, 1) := dk_4 (dk_at dksX8_far_1 4 rfl rfl)
theorem dX8_far_27 : decode cX8_far 27 = .ok (.if_icmp .le 9, 3) := dk_164 0 9 (dk_at dksX8_far_1 5 rfl rfl)
theorem dX8_far_30 : decode cX8_far 30 = .ok (.aload_n 0, 1) := dk_42 (dk_at dksX8_far_1 8 rfl rfl)
theorem dX8_far_31 : decode cX8_far 31 = .ok (.iconst 1, 1) := dk_4 (dk_at dksX8_far_1 9 rfl rfl)
theorem dX8_far_32 : decode cX8_far 32 = .ok (.invokevirtual 298, 3) := dk_182 1 42 (dk_at dksX8_far_1 10 rfl rfl)
theorem dX8_far_35 : decode cX8_far 35 = .ok (.ireturn, 1) := dk_172 (dk_at dksX8_far_1 13 rfl rfl)
theorem dX8_far_36 : decode cX8_far 36 = .ok (.iload_n 3, 1) := dk_29 (dk_at dksX8_far_1 14 rfl rfl)
theorem dX8_far_37 : decode cX8_far 37 = .ok (.ifCond .ne 16, 3) := dk_154 0 16 (dk_at dksX8_far_1 15 rfl rfl)
theorem dX8_far_40 : decode cX8_far 40 = .ok (.aload_n 0, 1) := dk_42 (dk_at dksX8_far_1 18 rfl rfl)
theorem dX8_far_41 : decode cX8_far 41 = .ok (.getfield 70, 3) := dk_180 0 70 (dk_at dksX8_far_1 19 rfl rfl)
theorem dX8_far_44 : decode cX8_far 44 = .ok (.iload_n 1, 1) := dk_27 (dk_at dksX8_far_1 22 rfl rfl)
theorem dX8_far_45 : decode cX8_far 45 = .ok (.iload_n 2, 1) := dk_28 (dk_at dksX8_far_1 23 rfl rfl)
theorem dX8_far_46 : decode cX8_far 46 = .ok (.invokestatic 276, 3) := dk_184 1 20 (dk_at dksX8_far_2 0 rfl rfl)
theorem dX8_far_49 : decode cX8_far 49 = .ok (.iaload, 1) := dk_46 (dk_at dksX8_far_2 3 rfl rfl)
theorem dX8_far_50 : decode cX8_far 50 = .ok (.goto 9, 3) := dk_167 0 9 (dk_at dksX8_far_2 4 rfl rfl)
theorem dX8_far_53 : decode cX8_far 53 = .ok (.aload_n 0, 1) := dk_42 (dk_at dksX8_far_2 7 rfl rfl)
theorem dX8_far_54 : decode cX8_far 54 = .ok (.iload_n 1, 1) := dk_27 (dk_at dksX8_far_2 8 rfl rfl)
theorem dX8_far_55 : decode cX8_far 55 = .ok (.iload_n 2, 1) := dk_28 (dk_at dksX8_far_2 9 rfl rfl)
theorem dX8_far_56 : decode cX8_far 56 = .ok (.invokevirtual 366, 3) := dk_182 1 110 (dk_at dksX8_far_2 10 rfl rfl)
theorem dX8_far_59 : decode cX8_far 59 = .ok (.invokestatic 416, 3) := dk_184 1 160 (dk_at dksX8_far_2 13 rfl rfl)
theorem dX8_far_62 : decode cX8_far 62 = .ok (.ireturn, 1) := dk_172 (dk_at dksX8_far_2 16 rfl rfl)
abbrev cX8_isTown : ByteArray := prog_20_method_5_code
def yX8_isTown : MethodName := ⟨RX8, "isTown", "(I)Z"⟩
def dkwX8_isTown_0 : List UInt8 := [27, 133, 9, 42, 180, 0, 34, 3, 46, 4, 100, 133, 184, 0, 153, 172]
abbrev dktX8_isTown_0 : List UInt8 := dkwX8_isTown_0 ++ []
theorem dksX8_isTown_0 : cX8_isTown.data.toList.drop 0 = dktX8_isTown_0 := by decide +kernel
theorem dX8_isTown_0 : decode cX8_isTown 0 = .ok (.iload_n 1, 1) := dk_27 (dk_at dksX8_isTown_0 0 rfl rfl)
theorem dX8_isTown_1 : decode cX8_isTown 1 = .ok (.i2l, 1) := dk_133 (dk_at dksX8_isTown_0 1 rfl rfl)
theorem dX8_isTown_2 : decode cX8_isTown 2 = .ok (.lconst 0, 1) := dk_9 (dk_at dksX8_isTown_0 2 rfl rfl)
theorem dX8_isTown_3 : decode cX8_isTown 3 = .ok (.aload_n 0, 1) := dk_42 (dk_at dksX8_isTown_0 3 rfl rfl)
theorem dX8_isTown_4 : decode cX8_isTown 4 = .ok (.getfield 34, 3) := dk_180 0 34 (dk_at dksX8_isTown_0 4 rfl rfl)
theorem dX8_isTown_7 : decode cX8_isTown 7 = .ok (.iconst 0, 1) := dk_3 (dk_at dksX8_isTown_0 7 rfl rfl)
theorem dX8_isTown_8 : decode cX8_isTown 8 = .ok (.iaload, 1) := dk_46 (dk_at dksX8_isTown_0 8 rfl rfl)
theorem dX8_isTown_9 : decode cX8_isTown 9 = .ok (.iconst 1, 1) := dk_4 (dk_at dksX8_isTown_0 9 rfl rfl)
theorem dX8_isTown_10 : decode cX8_isTown 10 = .ok (.isub, 1) := dk_100 (dk_at dksX8_isTown_0 10 rfl rfl)
theorem dX8_isTown_11 : decode cX8_isTown 11 = .ok (.i2l, 1) := dk_133 (dk_at dksX8_isTown_0 11 rfl rfl)
theorem dX8_isTown_12 : decode cX8_isTown 12 = .ok (.invokestatic 153, 3) := dk_184 0 153 (dk_at dksX8_isTown_0 12 rfl rfl)
theorem dX8_isTown_15 : decode cX8_isTown 15 = .ok (.ireturn, 1) := dk_172 (dk_at dksX8_isTown_0 15 rfl rfl)
abbrev cX8_isIn : ByteArray := prog_20_method_4_code
def yX8_isIn : MethodName := ⟨RX8, "isIn", "(JJJ)Z"⟩
def dkwX8_isIn_0 : List UInt8 := [30, 32, 148, 155, 0, 14, 30, 22, 4, 148, 157, 0, 7, 4, 167, 0, 4, 3, 172]
abbrev dktX8_isIn_0 : List UInt8 := dkwX8_isIn_0 ++ []
theorem dksX8_isIn_0 : cX8_isIn.data.toList.drop 0 = dktX8_isIn_0 := by decide +kernel
theorem dX8_isIn_0 : decode cX8_isIn 0 = .ok (.lload_n 0, 1) := dk_30 (dk_at dksX8_isIn_0 0 rfl rfl)
theorem dX8_isIn_1 : decode cX8_isIn 1 = .ok (.lload_n 2, 1) := dk_32 (dk_at dksX8_isIn_0 1 rfl rfl)
theorem dX8_isIn_2 : decode cX8_isIn 2 = .ok (.lcmp, 1) := dk_148 (dk_at dksX8_isIn_0 2 rfl rfl)
theorem dX8_isIn_3 : decode cX8_isIn 3 = .ok (.ifCond .lt 14, 3) := dk_155 0 14 (dk_at dksX8_isIn_0 3 rfl rfl)
theorem dX8_isIn_6 : decode cX8_isIn 6 = .ok (.lload_n 0, 1) := dk_30 (dk_at dksX8_isIn_0 6 rfl rfl)
theorem dX8_isIn_7 : decode cX8_isIn 7 = .ok (.lload 4, 2) := dk_22 4 (dk_at dksX8_isIn_0 7 rfl rfl)
theorem dX8_isIn_9 : decode cX8_isIn 9 = .ok (.lcmp, 1) := dk_148 (dk_at dksX8_isIn_0 9 rfl rfl)
theorem dX8_isIn_10 : decode cX8_isIn 10 = .ok (.ifCond .gt 7, 3) := dk_157 0 7 (dk_at dksX8_isIn_0 10 rfl rfl)
theorem dX8_isIn_13 : decode cX8_isIn 13 = .ok (.iconst 1, 1) := dk_4 (dk_at dksX8_isIn_0 13 rfl rfl)
theorem dX8_isIn_14 : decode cX8_isIn 14 = .ok (.goto 4, 3) := dk_167 0 4 (dk_at dksX8_isIn_0 14 rfl rfl)
theorem dX8_isIn_17 : decode cX8_isIn 17 = .ok (.iconst 0, 1) := dk_3 (dk_at dksX8_isIn_0 17 rfl rfl)
theorem dX8_isIn_18 : decode cX8_isIn 18 = .ok (.ireturn, 1) := dk_172 (dk_at dksX8_isIn_0 18 rfl rfl)
abbrev cX8_orNone : ByteArray := prog_20_method_64_code
def yX8_orNone : MethodName := ⟨RX8, "orNone", "(I)I"⟩
def dkwX8_orNone_0 : List UInt8 := [26, 18, 186, 161, 0, 7, 2, 167, 0, 4, 26, 172]
abbrev dktX8_orNone_0 : List UInt8 := dkwX8_orNone_0 ++ []
theorem dksX8_orNone_0 : cX8_orNone.data.toList.drop 0 = dktX8_orNone_0 := by decide +kernel
theorem dX8_orNone_0 : decode cX8_orNone 0 = .ok (.iload_n 0, 1) := dk_26 (dk_at dksX8_orNone_0 0 rfl rfl)
theorem dX8_orNone_1 : decode cX8_orNone 1 = .ok (.ldc 186, 2) := dk_18 186 (dk_at dksX8_orNone_0 1 rfl rfl)
theorem dX8_orNone_3 : decode cX8_orNone 3 = .ok (.if_icmp .lt 7, 3) := dk_161 0 7 (dk_at dksX8_orNone_0 3 rfl rfl)
theorem dX8_orNone_6 : decode cX8_orNone 6 = .ok (.iconst (-1), 1) := dk_2 (dk_at dksX8_orNone_0 6 rfl rfl)
theorem dX8_orNone_7 : decode cX8_orNone 7 = .ok (.goto 4, 3) := dk_167 0 4 (dk_at dksX8_orNone_0 7 rfl rfl)
theorem dX8_orNone_10 : decode cX8_orNone 10 = .ok (.iload_n 0, 1) := dk_26 (dk_at dksX8_orNone_0 10 rfl rfl)
theorem dX8_orNone_11 : decode cX8_orNone 11 = .ok (.ireturn, 1) := dk_172 (dk_at dksX8_orNone_0 11 rfl rfl)
abbrev cX8_judge : ByteArray := prog_20_method_68_code
def yX8_judge : MethodName := ⟨RX8, "judge", "(II)I"⟩
def dkwX8_judge_4 : List UInt8 := [160, 0, 12, 42, 180, 0, 47, 27, 46, 167, 0, 9, 42, 180, 0, 49, 27, 46, 172]
abbrev dktX8_judge_4 : List UInt8 := dkwX8_judge_4 ++ []
def dkwX8_judge_3 : List UInt8 := [180, 0, 41, 27, 46, 167, 0, 37, 28, 4, 160, 0, 12, 42, 180, 0, 44, 27, 46, 167, 0, 23, 28, 5]
abbrev dktX8_judge_3 : List UInt8 := dkwX8_judge_3 ++ dktX8_judge_4
def dkwX8_judge_2 : List UInt8 := [180, 0, 94, 16, 7, 27, 104, 42, 180, 0, 49, 27, 46, 96, 4, 100, 46, 172, 28, 154, 0, 12, 42]
abbrev dktX8_judge_2 : List UInt8 := dkwX8_judge_2 ++ dktX8_judge_3
def dkwX8_judge_1 : List UInt8 := [154, 0, 9, 42, 4, 182, 1, 42, 172, 28, 7, 160, 0, 30, 42, 182, 1, 148, 42, 182, 1, 132, 42]
abbrev dktX8_judge_1 : List UInt8 := dkwX8_judge_1 ++ dktX8_judge_2
def dkwX8_judge_0 : List UInt8 := [42, 3, 181, 0, 150, 42, 27, 182, 1, 163, 153, 0, 15, 28, 133, 9, 20, 1, 166, 184, 0, 153]
abbrev dktX8_judge_0 : List UInt8 := dkwX8_judge_0 ++ dktX8_judge_1
theorem dksX8_judge_0 : cX8_judge.data.toList.drop 0 = dktX8_judge_0 := by decide +kernel
theorem dksX8_judge_1 : cX8_judge.data.toList.drop 22 = dktX8_judge_1 := dk_seg dksX8_judge_0 22 rfl rfl
theorem dksX8_judge_2 : cX8_judge.data.toList.drop 45 = dktX8_judge_2 := dk_seg dksX8_judge_1 23 rfl rfl
theorem dksX8_judge_3 : cX8_judge.data.toList.drop 68 = dktX8_judge_3 := dk_seg dksX8_judge_2 23 rfl rfl
theorem dksX8_judge_4 : cX8_judge.data.toList.drop 92 = dktX8_judge_4 := dk_seg dksX8_judge_3 24 rfl rfl
theorem dX8_judge_0 : decode cX8_judge 0 = .ok (.aload_n 0, 1) := dk_42 (dk_at dksX8_judge_0 0 rfl rfl)
theorem dX8_judge_1 : decode cX8_judge 1 = .ok (.iconst 0, 1) := dk_3 (dk_at dksX8_judge_0 1 rfl rfl)
theorem dX8_judge_2 : decode cX8_judge 2 = .ok (.putfield 150, 3) := dk_181 0 150 (dk_at dksX8_judge_0 2 rfl rfl)
theorem dX8_judge_5 : decode cX8_judge 5 = .ok (.aload_n 0, 1) := dk_42 (dk_at dksX8_judge_0 5 rfl rfl)
theorem dX8_judge_6 : decode cX8_judge 6 = .ok (.iload_n 1, 1) := dk_27 (dk_at dksX8_judge_0 6 rfl rfl)
theorem dX8_judge_7 : decode cX8_judge 7 = .ok (.invokevirtual 419, 3) := dk_182 1 163 (dk_at dksX8_judge_0 7 rfl rfl)
theorem dX8_judge_10 : decode cX8_judge 10 = .ok (.ifCond .eq 15, 3) := dk_153 0 15 (dk_at dksX8_judge_0 10 rfl rfl)
theorem dX8_judge_13 : decode cX8_judge 13 = .ok (.iload_n 2, 1) := dk_28 (dk_at dksX8_judge_0 13 rfl rfl)
theorem dX8_judge_14 : decode cX8_judge 14 = .ok (.i2l, 1) := dk_133 (dk_at dksX8_judge_0 14 rfl rfl)
theorem dX8_judge_15 : decode cX8_judge 15 = .ok (.lconst 0, 1) := dk_9 (dk_at dksX8_judge_0 15 rfl rfl)
theorem dX8_judge_16 : decode cX8_judge 16 = .ok (.ldc2_w 422, 3) := dk_20 1 166 (dk_at dksX8_judge_0 16 rfl rfl)
theorem dX8_judge_19 : decode cX8_judge 19 = .ok (.invokestatic 153, 3) := dk_184 0 153 (dk_at dksX8_judge_0 19 rfl rfl)
theorem dX8_judge_22 : decode cX8_judge 22 = .ok (.ifCond .ne 9, 3) := dk_154 0 9 (dk_at dksX8_judge_1 0 rfl rfl)
theorem dX8_judge_25 : decode cX8_judge 25 = .ok (.aload_n 0, 1) := dk_42 (dk_at dksX8_judge_1 3 rfl rfl)
theorem dX8_judge_26 : decode cX8_judge 26 = .ok (.iconst 1, 1) := dk_4 (dk_at dksX8_judge_1 4 rfl rfl)
theorem dX8_judge_27 : decode cX8_judge 27 = .ok (.invokevirtual 298, 3) := dk_182 1 42 (dk_at dksX8_judge_1 5 rfl rfl)
theorem dX8_judge_30 : decode cX8_judge 30 = .ok (.ireturn, 1) := dk_172 (dk_at dksX8_judge_1 8 rfl rfl)
theorem dX8_judge_31 : decode cX8_judge 31 = .ok (.iload_n 2, 1) := dk_28 (dk_at dksX8_judge_1 9 rfl rfl)
theorem dX8_judge_32 : decode cX8_judge 32 = .ok (.iconst 4, 1) := dk_7 (dk_at dksX8_judge_1 10 rfl rfl)
theorem dX8_judge_33 : decode cX8_judge 33 = .ok (.if_icmp .ne 30, 3) := dk_160 0 30 (dk_at dksX8_judge_1 11 rfl rfl)
theorem dX8_judge_36 : decode cX8_judge 36 = .ok (.aload_n 0, 1) := dk_42 (dk_at dksX8_judge_1 14 rfl rfl)
theorem dX8_judge_37 : decode cX8_judge 37 = .ok (.invokevirtual 404, 3) := dk_182 1 148 (dk_at dksX8_judge_1 15 rfl rfl)
theorem dX8_judge_40 : decode cX8_judge 40 = .ok (.aload_n 0, 1) := dk_42 (dk_at dksX8_judge_1 18 rfl rfl)
theorem dX8_judge_41 : decode cX8_judge 41 = .ok (.invokevirtual 388, 3) := dk_182 1 132 (dk_at dksX8_judge_1 19 rfl rfl)
theorem dX8_judge_44 : decode cX8_judge 44 = .ok (.aload_n 0, 1) := dk_42 (dk_at dksX8_judge_1 22 rfl rfl)
theorem dX8_judge_45 : decode cX8_judge 45 = .ok (.getfield 94, 3) := dk_180 0 94 (dk_at dksX8_judge_2 0 rfl rfl)
theorem dX8_judge_48 : decode cX8_judge 48 = .ok (.bipush 7, 2) := dk_16 7 (dk_at dksX8_judge_2 3 rfl rfl)
theorem dX8_judge_50 : decode cX8_judge 50 = .ok (.iload_n 1, 1) := dk_27 (dk_at dksX8_judge_2 5 rfl rfl)
theorem dX8_judge_51 : decode cX8_judge 51 = .ok (.imul, 1) := dk_104 (dk_at dksX8_judge_2 6 rfl rfl)
theorem dX8_judge_52 : decode cX8_judge 52 = .ok (.aload_n 0, 1) := dk_42 (dk_at dksX8_judge_2 7 rfl rfl)
theorem dX8_judge_53 : decode cX8_judge 53 = .ok (.getfield 49, 3) := dk_180 0 49 (dk_at dksX8_judge_2 8 rfl rfl)
theorem dX8_judge_56 : decode cX8_judge 56 = .ok (.iload_n 1, 1) := dk_27 (dk_at dksX8_judge_2 11 rfl rfl)
theorem dX8_judge_57 : decode cX8_judge 57 = .ok (.iaload, 1) := dk_46 (dk_at dksX8_judge_2 12 rfl rfl)
theorem dX8_judge_58 : decode cX8_judge 58 = .ok (.iadd, 1) := dk_96 (dk_at dksX8_judge_2 13 rfl rfl)
theorem dX8_judge_59 : decode cX8_judge 59 = .ok (.iconst 1, 1) := dk_4 (dk_at dksX8_judge_2 14 rfl rfl)
theorem dX8_judge_60 : decode cX8_judge 60 = .ok (.isub, 1) := dk_100 (dk_at dksX8_judge_2 15 rfl rfl)
theorem dX8_judge_61 : decode cX8_judge 61 = .ok (.iaload, 1) := dk_46 (dk_at dksX8_judge_2 16 rfl rfl)
theorem dX8_judge_62 : decode cX8_judge 62 = .ok (.ireturn, 1) := dk_172 (dk_at dksX8_judge_2 17 rfl rfl)
theorem dX8_judge_63 : decode cX8_judge 63 = .ok (.iload_n 2, 1) := dk_28 (dk_at dksX8_judge_2 18 rfl rfl)
theorem dX8_judge_64 : decode cX8_judge 64 = .ok (.ifCond .ne 12, 3) := dk_154 0 12 (dk_at dksX8_judge_2 19 rfl rfl)
theorem dX8_judge_67 : decode cX8_judge 67 = .ok (.aload_n 0, 1) := dk_42 (dk_at dksX8_judge_2 22 rfl rfl)
theorem dX8_judge_68 : decode cX8_judge 68 = .ok (.getfield 41, 3) := dk_180 0 41 (dk_at dksX8_judge_3 0 rfl rfl)
theorem dX8_judge_71 : decode cX8_judge 71 = .ok (.iload_n 1, 1) := dk_27 (dk_at dksX8_judge_3 3 rfl rfl)
theorem dX8_judge_72 : decode cX8_judge 72 = .ok (.iaload, 1) := dk_46 (dk_at dksX8_judge_3 4 rfl rfl)
theorem dX8_judge_73 : decode cX8_judge 73 = .ok (.goto 37, 3) := dk_167 0 37 (dk_at dksX8_judge_3 5 rfl rfl)
theorem dX8_judge_76 : decode cX8_judge 76 = .ok (.iload_n 2, 1) := dk_28 (dk_at dksX8_judge_3 8 rfl rfl)
theorem dX8_judge_77 : decode cX8_judge 77 = .ok (.iconst 1, 1) := dk_4 (dk_at dksX8_judge_3 9 rfl rfl)
theorem dX8_judge_78 : decode cX8_judge 78 = .ok (.if_icmp .ne 12, 3) := dk_160 0 12 (dk_at dksX8_judge_3 10 rfl rfl)
theorem dX8_judge_81 : decode cX8_judge 81 = .ok (.aload_n 0, 1) := dk_42 (dk_at dksX8_judge_3 13 rfl rfl)
theorem dX8_judge_82 : decode cX8_judge 82 = .ok (.getfield 44, 3) := dk_180 0 44 (dk_at dksX8_judge_3 14 rfl rfl)
theorem dX8_judge_85 : decode cX8_judge 85 = .ok (.iload_n 1, 1) := dk_27 (dk_at dksX8_judge_3 17 rfl rfl)
theorem dX8_judge_86 : decode cX8_judge 86 = .ok (.iaload, 1) := dk_46 (dk_at dksX8_judge_3 18 rfl rfl)
theorem dX8_judge_87 : decode cX8_judge 87 = .ok (.goto 23, 3) := dk_167 0 23 (dk_at dksX8_judge_3 19 rfl rfl)
theorem dX8_judge_90 : decode cX8_judge 90 = .ok (.iload_n 2, 1) := dk_28 (dk_at dksX8_judge_3 22 rfl rfl)
theorem dX8_judge_91 : decode cX8_judge 91 = .ok (.iconst 2, 1) := dk_5 (dk_at dksX8_judge_3 23 rfl rfl)
theorem dX8_judge_92 : decode cX8_judge 92 = .ok (.if_icmp .ne 12, 3) := dk_160 0 12 (dk_at dksX8_judge_4 0 rfl rfl)
theorem dX8_judge_95 : decode cX8_judge 95 = .ok (.aload_n 0, 1) := dk_42 (dk_at dksX8_judge_4 3 rfl rfl)
theorem dX8_judge_96 : decode cX8_judge 96 = .ok (.getfield 47, 3) := dk_180 0 47 (dk_at dksX8_judge_4 4 rfl rfl)
theorem dX8_judge_99 : decode cX8_judge 99 = .ok (.iload_n 1, 1) := dk_27 (dk_at dksX8_judge_4 7 rfl rfl)
theorem dX8_judge_100 : decode cX8_judge 100 = .ok (.iaload, 1) := dk_46 (dk_at dksX8_judge_4 8 rfl rfl)
theorem dX8_judge_101 : decode cX8_judge 101 = .ok (.goto 9, 3) := dk_167 0 9 (dk_at dksX8_judge_4 9 rfl rfl)
theorem dX8_judge_104 : decode cX8_judge 104 = .ok (.aload_n 0, 1) := dk_42 (dk_at dksX8_judge_4 12 rfl rfl)
theorem dX8_judge_105 : decode cX8_judge 105 = .ok (.getfield 49, 3) := dk_180 0 49 (dk_at dksX8_judge_4 13 rfl rfl)
theorem dX8_judge_108 : decode cX8_judge 108 = .ok (.iload_n 1, 1) := dk_27 (dk_at dksX8_judge_4 16 rfl rfl)
theorem dX8_judge_109 : decode cX8_judge 109 = .ok (.iaload, 1) := dk_46 (dk_at dksX8_judge_4 17 rfl rfl)
theorem dX8_judge_110 : decode cX8_judge 110 = .ok (.ireturn, 1) := dk_172 (dk_at dksX8_judge_4 18 rfl rfl)
abbrev cX8_isJudge : ByteArray := prog_20_method_6_code
def yX8_isJudge : MethodName := ⟨RX8, "isJudge", "(I)Z"⟩
def dkwX8_isJudge_0 : List UInt8 := [27, 133, 9, 42, 180, 0, 34, 7, 46, 4, 100, 133, 184, 0, 153, 172]
abbrev dktX8_isJudge_0 : List UInt8 := dkwX8_isJudge_0 ++ []
theorem dksX8_isJudge_0 : cX8_isJudge.data.toList.drop 0 = dktX8_isJudge_0 := by decide +kernel
theorem dX8_isJudge_0 : decode cX8_isJudge 0 = .ok (.iload_n 1, 1) := dk_27 (dk_at dksX8_isJudge_0 0 rfl rfl)
theorem dX8_isJudge_1 : decode cX8_isJudge 1 = .ok (.i2l, 1) := dk_133 (dk_at dksX8_isJudge_0 1 rfl rfl)
theorem dX8_isJudge_2 : decode cX8_isJudge 2 = .ok (.lconst 0, 1) := dk_9 (dk_at dksX8_isJudge_0 2 rfl rfl)
theorem dX8_isJudge_3 : decode cX8_isJudge 3 = .ok (.aload_n 0, 1) := dk_42 (dk_at dksX8_isJudge_0 3 rfl rfl)
theorem dX8_isJudge_4 : decode cX8_isJudge 4 = .ok (.getfield 34, 3) := dk_180 0 34 (dk_at dksX8_isJudge_0 4 rfl rfl)
theorem dX8_isJudge_7 : decode cX8_isJudge 7 = .ok (.iconst 4, 1) := dk_7 (dk_at dksX8_isJudge_0 7 rfl rfl)
theorem dX8_isJudge_8 : decode cX8_isJudge 8 = .ok (.iaload, 1) := dk_46 (dk_at dksX8_isJudge_0 8 rfl rfl)
theorem dX8_isJudge_9 : decode cX8_isJudge 9 = .ok (.iconst 1, 1) := dk_4 (dk_at dksX8_isJudge_0 9 rfl rfl)
theorem dX8_isJudge_10 : decode cX8_isJudge 10 = .ok (.isub, 1) := dk_100 (dk_at dksX8_isJudge_0 10 rfl rfl)
theorem dX8_isJudge_11 : decode cX8_isJudge 11 = .ok (.i2l, 1) := dk_133 (dk_at dksX8_isJudge_0 11 rfl rfl)
theorem dX8_isJudge_12 : decode cX8_isJudge 12 = .ok (.invokestatic 153, 3) := dk_184 0 153 (dk_at dksX8_isJudge_0 12 rfl rfl)
theorem dX8_isJudge_15 : decode cX8_isJudge 15 = .ok (.ireturn, 1) := dk_172 (dk_at dksX8_isJudge_0 15 rfl rfl)
abbrev cX8_stop : ByteArray := prog_20_method_69_code
def yX8_stop : MethodName := ⟨RX8, "stop", "(III)I"⟩
def dkwX8_stop_3 : List UInt8 := [167, 0, 14, 42, 180, 0, 94, 16, 7, 27, 104, 28, 96, 46, 172]
abbrev dktX8_stop_3 : List UInt8 := dkwX8_stop_3 ++ []
def dkwX8_stop_2 : List UInt8 := [182, 1, 148, 42, 182, 1, 132, 29, 154, 0, 17, 42, 180, 0, 91, 16, 7, 27, 104, 28, 96, 46]
abbrev dktX8_stop_2 : List UInt8 := dkwX8_stop_2 ++ dktX8_stop_3
def dkwX8_stop_1 : List UInt8 := [133, 184, 0, 153, 153, 0, 12, 29, 155, 0, 8, 29, 4, 164, 0, 9, 42, 4, 182, 1, 42, 172, 42]
abbrev dktX8_stop_1 : List UInt8 := dkwX8_stop_1 ++ dktX8_stop_2
def dkwX8_stop_0 : List UInt8 := [42, 3, 181, 0, 150, 42, 27, 182, 1, 163, 153, 0, 30, 28, 133, 9, 42, 180, 0, 49, 27, 46, 4, 100]
abbrev dktX8_stop_0 : List UInt8 := dkwX8_stop_0 ++ dktX8_stop_1
theorem dksX8_stop_0 : cX8_stop.data.toList.drop 0 = dktX8_stop_0 := by decide +kernel
theorem dksX8_stop_1 : cX8_stop.data.toList.drop 24 = dktX8_stop_1 := dk_seg dksX8_stop_0 24 rfl rfl
theorem dksX8_stop_2 : cX8_stop.data.toList.drop 47 = dktX8_stop_2 := dk_seg dksX8_stop_1 23 rfl rfl
theorem dksX8_stop_3 : cX8_stop.data.toList.drop 69 = dktX8_stop_3 := dk_seg dksX8_stop_2 22 rfl rfl
theorem dX8_stop_0 : decode cX8_stop 0 = .ok (.aload_n 0, 1) := dk_42 (dk_at dksX8_stop_0 0 rfl rfl)
theorem dX8_stop_1 : decode cX8_stop 1 = .ok (.iconst 0, 1) := dk_3 (dk_at dksX8_stop_0 1 rfl rfl)
theorem dX8_stop_2 : decode cX8_stop 2 = .ok (.putfield 150, 3) := dk_181 0 150 (dk_at dksX8_stop_0 2 rfl rfl)
theorem dX8_stop_5 : decode cX8_stop 5 = .ok (.aload_n 0, 1) := dk_42 (dk_at dksX8_stop_0 5 rfl rfl)
theorem dX8_stop_6 : decode cX8_stop 6 = .ok (.iload_n 1, 1) := dk_27 (dk_at dksX8_stop_0 6 rfl rfl)
theorem dX8_stop_7 : decode cX8_stop 7 = .ok (.invokevirtual 419, 3) := dk_182 1 163 (dk_at dksX8_stop_0 7 rfl rfl)
theorem dX8_stop_10 : decode cX8_stop 10 = .ok (.ifCond .eq 30, 3) := dk_153 0 30 (dk_at dksX8_stop_0 10 rfl rfl)
theorem dX8_stop_13 : decode cX8_stop 13 = .ok (.iload_n 2, 1) := dk_28 (dk_at dksX8_stop_0 13 rfl rfl)
theorem dX8_stop_14 : decode cX8_stop 14 = .ok (.i2l, 1) := dk_133 (dk_at dksX8_stop_0 14 rfl rfl)
theorem dX8_stop_15 : decode cX8_stop 15 = .ok (.lconst 0, 1) := dk_9 (dk_at dksX8_stop_0 15 rfl rfl)
theorem dX8_stop_16 : decode cX8_stop 16 = .ok (.aload_n 0, 1) := dk_42 (dk_at dksX8_stop_0 16 rfl rfl)
theorem dX8_stop_17 : decode cX8_stop 17 = .ok (.getfield 49, 3) := dk_180 0 49 (dk_at dksX8_stop_0 17 rfl rfl)
theorem dX8_stop_20 : decode cX8_stop 20 = .ok (.iload_n 1, 1) := dk_27 (dk_at dksX8_stop_0 20 rfl rfl)
theorem dX8_stop_21 : decode cX8_stop 21 = .ok (.iaload, 1) := dk_46 (dk_at dksX8_stop_0 21 rfl rfl)
theorem dX8_stop_22 : decode cX8_stop 22 = .ok (.iconst 1, 1) := dk_4 (dk_at dksX8_stop_0 22 rfl rfl)
theorem dX8_stop_23 : decode cX8_stop 23 = .ok (.isub, 1) := dk_100 (dk_at dksX8_stop_0 23 rfl rfl)
theorem dX8_stop_24 : decode cX8_stop 24 = .ok (.i2l, 1) := dk_133 (dk_at dksX8_stop_1 0 rfl rfl)
theorem dX8_stop_25 : decode cX8_stop 25 = .ok (.invokestatic 153, 3) := dk_184 0 153 (dk_at dksX8_stop_1 1 rfl rfl)
theorem dX8_stop_28 : decode cX8_stop 28 = .ok (.ifCond .eq 12, 3) := dk_153 0 12 (dk_at dksX8_stop_1 4 rfl rfl)
theorem dX8_stop_31 : decode cX8_stop 31 = .ok (.iload_n 3, 1) := dk_29 (dk_at dksX8_stop_1 7 rfl rfl)
theorem dX8_stop_32 : decode cX8_stop 32 = .ok (.ifCond .lt 8, 3) := dk_155 0 8 (dk_at dksX8_stop_1 8 rfl rfl)
theorem dX8_stop_35 : decode cX8_stop 35 = .ok (.iload_n 3, 1) := dk_29 (dk_at dksX8_stop_1 11 rfl rfl)
theorem dX8_stop_36 : decode cX8_stop 36 = .ok (.iconst 1, 1) := dk_4 (dk_at dksX8_stop_1 12 rfl rfl)
theorem dX8_stop_37 : decode cX8_stop 37 = .ok (.if_icmp .le 9, 3) := dk_164 0 9 (dk_at dksX8_stop_1 13 rfl rfl)
theorem dX8_stop_40 : decode cX8_stop 40 = .ok (.aload_n 0, 1) := dk_42 (dk_at dksX8_stop_1 16 rfl rfl)
theorem dX8_stop_41 : decode cX8_stop 41 = .ok (.iconst 1, 1) := dk_4 (dk_at dksX8_stop_1 17 rfl rfl)
theorem dX8_stop_42 : decode cX8_stop 42 = .ok (.invokevirtual 298, 3) := dk_182 1 42 (dk_at dksX8_stop_1 18 rfl rfl)
theorem dX8_stop_45 : decode cX8_stop 45 = .ok (.ireturn, 1) := dk_172 (dk_at dksX8_stop_1 21 rfl rfl)
theorem dX8_stop_46 : decode cX8_stop 46 = .ok (.aload_n 0, 1) := dk_42 (dk_at dksX8_stop_1 22 rfl rfl)
theorem dX8_stop_47 : decode cX8_stop 47 = .ok (.invokevirtual 404, 3) := dk_182 1 148 (dk_at dksX8_stop_2 0 rfl rfl)
theorem dX8_stop_50 : decode cX8_stop 50 = .ok (.aload_n 0, 1) := dk_42 (dk_at dksX8_stop_2 3 rfl rfl)
theorem dX8_stop_51 : decode cX8_stop 51 = .ok (.invokevirtual 388, 3) := dk_182 1 132 (dk_at dksX8_stop_2 4 rfl rfl)
theorem dX8_stop_54 : decode cX8_stop 54 = .ok (.iload_n 3, 1) := dk_29 (dk_at dksX8_stop_2 7 rfl rfl)
theorem dX8_stop_55 : decode cX8_stop 55 = .ok (.ifCond .ne 17, 3) := dk_154 0 17 (dk_at dksX8_stop_2 8 rfl rfl)
theorem dX8_stop_58 : decode cX8_stop 58 = .ok (.aload_n 0, 1) := dk_42 (dk_at dksX8_stop_2 11 rfl rfl)
theorem dX8_stop_59 : decode cX8_stop 59 = .ok (.getfield 91, 3) := dk_180 0 91 (dk_at dksX8_stop_2 12 rfl rfl)
theorem dX8_stop_62 : decode cX8_stop 62 = .ok (.bipush 7, 2) := dk_16 7 (dk_at dksX8_stop_2 15 rfl rfl)
theorem dX8_stop_64 : decode cX8_stop 64 = .ok (.iload_n 1, 1) := dk_27 (dk_at dksX8_stop_2 17 rfl rfl)
theorem dX8_stop_65 : decode cX8_stop 65 = .ok (.imul, 1) := dk_104 (dk_at dksX8_stop_2 18 rfl rfl)
theorem dX8_stop_66 : decode cX8_stop 66 = .ok (.iload_n 2, 1) := dk_28 (dk_at dksX8_stop_2 19 rfl rfl)
theorem dX8_stop_67 : decode cX8_stop 67 = .ok (.iadd, 1) := dk_96 (dk_at dksX8_stop_2 20 rfl rfl)
theorem dX8_stop_68 : decode cX8_stop 68 = .ok (.iaload, 1) := dk_46 (dk_at dksX8_stop_2 21 rfl rfl)
theorem dX8_stop_69 : decode cX8_stop 69 = .ok (.goto 14, 3) := dk_167 0 14 (dk_at dksX8_stop_3 0 rfl rfl)
theorem dX8_stop_72 : decode cX8_stop 72 = .ok (.aload_n 0, 1) := dk_42 (dk_at dksX8_stop_3 3 rfl rfl)
theorem dX8_stop_73 : decode cX8_stop 73 = .ok (.getfield 94, 3) := dk_180 0 94 (dk_at dksX8_stop_3 4 rfl rfl)
theorem dX8_stop_76 : decode cX8_stop 76 = .ok (.bipush 7, 2) := dk_16 7 (dk_at dksX8_stop_3 7 rfl rfl)
theorem dX8_stop_78 : decode cX8_stop 78 = .ok (.iload_n 1, 1) := dk_27 (dk_at dksX8_stop_3 9 rfl rfl)
theorem dX8_stop_79 : decode cX8_stop 79 = .ok (.imul, 1) := dk_104 (dk_at dksX8_stop_3 10 rfl rfl)
theorem dX8_stop_80 : decode cX8_stop 80 = .ok (.iload_n 2, 1) := dk_28 (dk_at dksX8_stop_3 11 rfl rfl)
theorem dX8_stop_81 : decode cX8_stop 81 = .ok (.iadd, 1) := dk_96 (dk_at dksX8_stop_3 12 rfl rfl)
theorem dX8_stop_82 : decode cX8_stop 82 = .ok (.iaload, 1) := dk_46 (dk_at dksX8_stop_3 13 rfl rfl)
theorem dX8_stop_83 : decode cX8_stop 83 = .ok (.ireturn, 1) := dk_172 (dk_at dksX8_stop_3 14 rfl rfl)
abbrev cX8_where : ByteArray := prog_20_method_70_code
def yX8_where : MethodName := ⟨RX8, "where", "(II)I"⟩
def dkwX8_where_1 : List UInt8 := [182, 1, 132, 42, 27, 28, 182, 1, 90, 172]
abbrev dktX8_where_1 : List UInt8 := dkwX8_where_1 ++ []
def dkwX8_where_0 : List UInt8 := [42, 3, 181, 0, 150, 42, 27, 182, 1, 163, 154, 0, 9, 42, 4, 182, 1, 42, 172, 42, 182, 1, 148, 42]
abbrev dktX8_where_0 : List UInt8 := dkwX8_where_0 ++ dktX8_where_1
theorem dksX8_where_0 : cX8_where.data.toList.drop 0 = dktX8_where_0 := by decide +kernel
theorem dksX8_where_1 : cX8_where.data.toList.drop 24 = dktX8_where_1 := dk_seg dksX8_where_0 24 rfl rfl
theorem dX8_where_0 : decode cX8_where 0 = .ok (.aload_n 0, 1) := dk_42 (dk_at dksX8_where_0 0 rfl rfl)
theorem dX8_where_1 : decode cX8_where 1 = .ok (.iconst 0, 1) := dk_3 (dk_at dksX8_where_0 1 rfl rfl)
theorem dX8_where_2 : decode cX8_where 2 = .ok (.putfield 150, 3) := dk_181 0 150 (dk_at dksX8_where_0 2 rfl rfl)
theorem dX8_where_5 : decode cX8_where 5 = .ok (.aload_n 0, 1) := dk_42 (dk_at dksX8_where_0 5 rfl rfl)
theorem dX8_where_6 : decode cX8_where 6 = .ok (.iload_n 1, 1) := dk_27 (dk_at dksX8_where_0 6 rfl rfl)
theorem dX8_where_7 : decode cX8_where 7 = .ok (.invokevirtual 419, 3) := dk_182 1 163 (dk_at dksX8_where_0 7 rfl rfl)
theorem dX8_where_10 : decode cX8_where 10 = .ok (.ifCond .ne 9, 3) := dk_154 0 9 (dk_at dksX8_where_0 10 rfl rfl)
theorem dX8_where_13 : decode cX8_where 13 = .ok (.aload_n 0, 1) := dk_42 (dk_at dksX8_where_0 13 rfl rfl)
theorem dX8_where_14 : decode cX8_where 14 = .ok (.iconst 1, 1) := dk_4 (dk_at dksX8_where_0 14 rfl rfl)
theorem dX8_where_15 : decode cX8_where 15 = .ok (.invokevirtual 298, 3) := dk_182 1 42 (dk_at dksX8_where_0 15 rfl rfl)
theorem dX8_where_18 : decode cX8_where 18 = .ok (.ireturn, 1) := dk_172 (dk_at dksX8_where_0 18 rfl rfl)
theorem dX8_where_19 : decode cX8_where 19 = .ok (.aload_n 0, 1) := dk_42 (dk_at dksX8_where_0 19 rfl rfl)
theorem dX8_where_20 : decode cX8_where 20 = .ok (.invokevirtual 404, 3) := dk_182 1 148 (dk_at dksX8_where_0 20 rfl rfl)
theorem dX8_where_23 : decode cX8_where 23 = .ok (.aload_n 0, 1) := dk_42 (dk_at dksX8_where_0 23 rfl rfl)
theorem dX8_where_24 : decode cX8_where 24 = .ok (.invokevirtual 388, 3) := dk_182 1 132 (dk_at dksX8_where_1 0 rfl rfl)
theorem dX8_where_27 : decode cX8_where 27 = .ok (.aload_n 0, 1) := dk_42 (dk_at dksX8_where_1 3 rfl rfl)
theorem dX8_where_28 : decode cX8_where 28 = .ok (.iload_n 1, 1) := dk_27 (dk_at dksX8_where_1 4 rfl rfl)
theorem dX8_where_29 : decode cX8_where 29 = .ok (.iload_n 2, 1) := dk_28 (dk_at dksX8_where_1 5 rfl rfl)
theorem dX8_where_30 : decode cX8_where 30 = .ok (.invokevirtual 346, 3) := dk_182 1 90 (dk_at dksX8_where_1 6 rfl rfl)
theorem dX8_where_33 : decode cX8_where 33 = .ok (.ireturn, 1) := dk_172 (dk_at dksX8_where_1 9 rfl rfl)
abbrev cX8_proof : ByteArray := prog_20_method_71_code
def yX8_proof : MethodName := ⟨RX8, "proof", "(II)I"⟩
def dkwX8_proof_1 : List UInt8 := [180, 0, 55, 16, 9, 27, 104, 28, 96, 46, 167, 0, 8, 42, 4, 182, 1, 42, 172]
abbrev dktX8_proof_1 : List UInt8 := dkwX8_proof_1 ++ []
def dkwX8_proof_0 : List UInt8 := [42, 3, 181, 0, 150, 42, 27, 182, 1, 168, 153, 0, 25, 42, 28, 182, 1, 157, 153, 0, 17, 42]
abbrev dktX8_proof_0 : List UInt8 := dkwX8_proof_0 ++ dktX8_proof_1
theorem dksX8_proof_0 : cX8_proof.data.toList.drop 0 = dktX8_proof_0 := by decide +kernel
theorem dksX8_proof_1 : cX8_proof.data.toList.drop 22 = dktX8_proof_1 := dk_seg dksX8_proof_0 22 rfl rfl
theorem dX8_proof_0 : decode cX8_proof 0 = .ok (.aload_n 0, 1) := dk_42 (dk_at dksX8_proof_0 0 rfl rfl)
theorem dX8_proof_1 : decode cX8_proof 1 = .ok (.iconst 0, 1) := dk_3 (dk_at dksX8_proof_0 1 rfl rfl)
theorem dX8_proof_2 : decode cX8_proof 2 = .ok (.putfield 150, 3) := dk_181 0 150 (dk_at dksX8_proof_0 2 rfl rfl)
theorem dX8_proof_5 : decode cX8_proof 5 = .ok (.aload_n 0, 1) := dk_42 (dk_at dksX8_proof_0 5 rfl rfl)
theorem dX8_proof_6 : decode cX8_proof 6 = .ok (.iload_n 1, 1) := dk_27 (dk_at dksX8_proof_0 6 rfl rfl)
theorem dX8_proof_7 : decode cX8_proof 7 = .ok (.invokevirtual 424, 3) := dk_182 1 168 (dk_at dksX8_proof_0 7 rfl rfl)
theorem dX8_proof_10 : decode cX8_proof 10 = .ok (.ifCond .eq 25, 3) := dk_153 0 25 (dk_at dksX8_proof_0 10 rfl rfl)
theorem dX8_proof_13 : decode cX8_proof 13 = .ok (.aload_n 0, 1) := dk_42 (dk_at dksX8_proof_0 13 rfl rfl)
theorem dX8_proof_14 : decode cX8_proof 14 = .ok (.iload_n 2, 1) := dk_28 (dk_at dksX8_proof_0 14 rfl rfl)
theorem dX8_proof_15 : decode cX8_proof 15 = .ok (.invokevirtual 413, 3) := dk_182 1 157 (dk_at dksX8_proof_0 15 rfl rfl)
theorem dX8_proof_18 : decode cX8_proof 18 = .ok (.ifCond .eq 17, 3) := dk_153 0 17 (dk_at dksX8_proof_0 18 rfl rfl)
theorem dX8_proof_21 : decode cX8_proof 21 = .ok (.aload_n 0, 1) := dk_42 (dk_at dksX8_proof_0 21 rfl rfl)
theorem dX8_proof_22 : decode cX8_proof 22 = .ok (.getfield 55, 3) := dk_180 0 55 (dk_at dksX8_proof_1 0 rfl rfl)
theorem dX8_proof_25 : decode cX8_proof 25 = .ok (.bipush 9, 2) := dk_16 9 (dk_at dksX8_proof_1 3 rfl rfl)
theorem dX8_proof_27 : decode cX8_proof 27 = .ok (.iload_n 1, 1) := dk_27 (dk_at dksX8_proof_1 5 rfl rfl)
theorem dX8_proof_28 : decode cX8_proof 28 = .ok (.imul, 1) := dk_104 (dk_at dksX8_proof_1 6 rfl rfl)
theorem dX8_proof_29 : decode cX8_proof 29 = .ok (.iload_n 2, 1) := dk_28 (dk_at dksX8_proof_1 7 rfl rfl)
theorem dX8_proof_30 : decode cX8_proof 30 = .ok (.iadd, 1) := dk_96 (dk_at dksX8_proof_1 8 rfl rfl)
theorem dX8_proof_31 : decode cX8_proof 31 = .ok (.iaload, 1) := dk_46 (dk_at dksX8_proof_1 9 rfl rfl)
theorem dX8_proof_32 : decode cX8_proof 32 = .ok (.goto 8, 3) := dk_167 0 8 (dk_at dksX8_proof_1 10 rfl rfl)
theorem dX8_proof_35 : decode cX8_proof 35 = .ok (.aload_n 0, 1) := dk_42 (dk_at dksX8_proof_1 13 rfl rfl)
theorem dX8_proof_36 : decode cX8_proof 36 = .ok (.iconst 1, 1) := dk_4 (dk_at dksX8_proof_1 14 rfl rfl)
theorem dX8_proof_37 : decode cX8_proof 37 = .ok (.invokevirtual 298, 3) := dk_182 1 42 (dk_at dksX8_proof_1 15 rfl rfl)
theorem dX8_proof_40 : decode cX8_proof 40 = .ok (.ireturn, 1) := dk_172 (dk_at dksX8_proof_1 18 rfl rfl)
abbrev cX8_isCase : ByteArray := prog_20_method_7_code
def yX8_isCase : MethodName := ⟨RX8, "isCase", "(I)Z"⟩
def dkwX8_isCase_0 : List UInt8 := [27, 133, 9, 42, 180, 0, 34, 8, 46, 4, 100, 133, 184, 0, 153, 172]
abbrev dktX8_isCase_0 : List UInt8 := dkwX8_isCase_0 ++ []
theorem dksX8_isCase_0 : cX8_isCase.data.toList.drop 0 = dktX8_isCase_0 := by decide +kernel
theorem dX8_isCase_0 : decode cX8_isCase 0 = .ok (.iload_n 1, 1) := dk_27 (dk_at dksX8_isCase_0 0 rfl rfl)
theorem dX8_isCase_1 : decode cX8_isCase 1 = .ok (.i2l, 1) := dk_133 (dk_at dksX8_isCase_0 1 rfl rfl)
theorem dX8_isCase_2 : decode cX8_isCase 2 = .ok (.lconst 0, 1) := dk_9 (dk_at dksX8_isCase_0 2 rfl rfl)
theorem dX8_isCase_3 : decode cX8_isCase 3 = .ok (.aload_n 0, 1) := dk_42 (dk_at dksX8_isCase_0 3 rfl rfl)
theorem dX8_isCase_4 : decode cX8_isCase 4 = .ok (.getfield 34, 3) := dk_180 0 34 (dk_at dksX8_isCase_0 4 rfl rfl)
theorem dX8_isCase_7 : decode cX8_isCase 7 = .ok (.iconst 5, 1) := dk_8 (dk_at dksX8_isCase_0 7 rfl rfl)
theorem dX8_isCase_8 : decode cX8_isCase 8 = .ok (.iaload, 1) := dk_46 (dk_at dksX8_isCase_0 8 rfl rfl)
theorem dX8_isCase_9 : decode cX8_isCase 9 = .ok (.iconst 1, 1) := dk_4 (dk_at dksX8_isCase_0 9 rfl rfl)
theorem dX8_isCase_10 : decode cX8_isCase 10 = .ok (.isub, 1) := dk_100 (dk_at dksX8_isCase_0 10 rfl rfl)
theorem dX8_isCase_11 : decode cX8_isCase 11 = .ok (.i2l, 1) := dk_133 (dk_at dksX8_isCase_0 11 rfl rfl)
theorem dX8_isCase_12 : decode cX8_isCase 12 = .ok (.invokestatic 153, 3) := dk_184 0 153 (dk_at dksX8_isCase_0 12 rfl rfl)
theorem dX8_isCase_15 : decode cX8_isCase 15 = .ok (.ireturn, 1) := dk_172 (dk_at dksX8_isCase_0 15 rfl rfl)
abbrev cX8_said : ByteArray := prog_20_method_72_code
def yX8_said : MethodName := ⟨RX8, "said", "(III)I"⟩
def dkwX8_said_4 : List UInt8 := [160, 0, 13, 42, 180, 0, 108, 21, 4, 46, 167, 0, 10, 42, 180, 0, 111, 21, 4, 46, 172]
abbrev dktX8_said_4 : List UInt8 := dkwX8_said_4 ++ []
def dkwX8_said_3 : List UInt8 := [160, 0, 7, 2, 167, 0, 39, 29, 154, 0, 13, 42, 180, 0, 106, 21, 4, 46, 167, 0, 25, 29, 4]
abbrev dktX8_said_3 : List UInt8 := dkwX8_said_3 ++ dktX8_said_4
def dkwX8_said_2 : List UInt8 := [96, 54, 4, 29, 6, 160, 0, 11, 42, 180, 0, 114, 21, 4, 46, 172, 42, 180, 0, 106, 21, 4, 46, 2]
abbrev dktX8_said_2 : List UInt8 := dkwX8_said_2 ++ dktX8_said_3
def dkwX8_said_1 : List UInt8 := [20, 1, 171, 184, 0, 153, 154, 0, 9, 42, 4, 182, 1, 42, 172, 42, 182, 1, 154, 87, 8, 27, 104, 28]
abbrev dktX8_said_1 : List UInt8 := dkwX8_said_1 ++ dktX8_said_2
def dkwX8_said_0 : List UInt8 := [42, 3, 181, 0, 150, 42, 27, 182, 1, 168, 153, 0, 23, 42, 28, 182, 1, 163, 153, 0, 15, 29, 133, 9]
abbrev dktX8_said_0 : List UInt8 := dkwX8_said_0 ++ dktX8_said_1
theorem dksX8_said_0 : cX8_said.data.toList.drop 0 = dktX8_said_0 := by decide +kernel
theorem dksX8_said_1 : cX8_said.data.toList.drop 24 = dktX8_said_1 := dk_seg dksX8_said_0 24 rfl rfl
theorem dksX8_said_2 : cX8_said.data.toList.drop 48 = dktX8_said_2 := dk_seg dksX8_said_1 24 rfl rfl
theorem dksX8_said_3 : cX8_said.data.toList.drop 72 = dktX8_said_3 := dk_seg dksX8_said_2 24 rfl rfl
theorem dksX8_said_4 : cX8_said.data.toList.drop 95 = dktX8_said_4 := dk_seg dksX8_said_3 23 rfl rfl
theorem dX8_said_0 : decode cX8_said 0 = .ok (.aload_n 0, 1) := dk_42 (dk_at dksX8_said_0 0 rfl rfl)
theorem dX8_said_1 : decode cX8_said 1 = .ok (.iconst 0, 1) := dk_3 (dk_at dksX8_said_0 1 rfl rfl)
theorem dX8_said_2 : decode cX8_said 2 = .ok (.putfield 150, 3) := dk_181 0 150 (dk_at dksX8_said_0 2 rfl rfl)
theorem dX8_said_5 : decode cX8_said 5 = .ok (.aload_n 0, 1) := dk_42 (dk_at dksX8_said_0 5 rfl rfl)
theorem dX8_said_6 : decode cX8_said 6 = .ok (.iload_n 1, 1) := dk_27 (dk_at dksX8_said_0 6 rfl rfl)
theorem dX8_said_7 : decode cX8_said 7 = .ok (.invokevirtual 424, 3) := dk_182 1 168 (dk_at dksX8_said_0 7 rfl rfl)
theorem dX8_said_10 : decode cX8_said 10 = .ok (.ifCond .eq 23, 3) := dk_153 0 23 (dk_at dksX8_said_0 10 rfl rfl)
theorem dX8_said_13 : decode cX8_said 13 = .ok (.aload_n 0, 1) := dk_42 (dk_at dksX8_said_0 13 rfl rfl)
theorem dX8_said_14 : decode cX8_said 14 = .ok (.iload_n 2, 1) := dk_28 (dk_at dksX8_said_0 14 rfl rfl)
theorem dX8_said_15 : decode cX8_said 15 = .ok (.invokevirtual 419, 3) := dk_182 1 163 (dk_at dksX8_said_0 15 rfl rfl)
theorem dX8_said_18 : decode cX8_said 18 = .ok (.ifCond .eq 15, 3) := dk_153 0 15 (dk_at dksX8_said_0 18 rfl rfl)
theorem dX8_said_21 : decode cX8_said 21 = .ok (.iload_n 3, 1) := dk_29 (dk_at dksX8_said_0 21 rfl rfl)
theorem dX8_said_22 : decode cX8_said 22 = .ok (.i2l, 1) := dk_133 (dk_at dksX8_said_0 22 rfl rfl)
theorem dX8_said_23 : decode cX8_said 23 = .ok (.lconst 0, 1) := dk_9 (dk_at dksX8_said_0 23 rfl rfl)
theorem dX8_said_24 : decode cX8_said 24 = .ok (.ldc2_w 427, 3) := dk_20 1 171 (dk_at dksX8_said_1 0 rfl rfl)
theorem dX8_said_27 : decode cX8_said 27 = .ok (.invokestatic 153, 3) := dk_184 0 153 (dk_at dksX8_said_1 3 rfl rfl)
theorem dX8_said_30 : decode cX8_said 30 = .ok (.ifCond .ne 9, 3) := dk_154 0 9 (dk_at dksX8_said_1 6 rfl rfl)
theorem dX8_said_33 : decode cX8_said 33 = .ok (.aload_n 0, 1) := dk_42 (dk_at dksX8_said_1 9 rfl rfl)
theorem dX8_said_34 : decode cX8_said 34 = .ok (.iconst 1, 1) := dk_4 (dk_at dksX8_said_1 10 rfl rfl)
theorem dX8_said_35 : decode cX8_said 35 = .ok (.invokevirtual 298, 3) := dk_182 1 42 (dk_at dksX8_said_1 11 rfl rfl)
theorem dX8_said_38 : decode cX8_said 38 = .ok (.ireturn, 1) := dk_172 (dk_at dksX8_said_1 14 rfl rfl)
theorem dX8_said_39 : decode cX8_said 39 = .ok (.aload_n 0, 1) := dk_42 (dk_at dksX8_said_1 15 rfl rfl)
theorem dX8_said_40 : decode cX8_said 40 = .ok (.invokevirtual 410, 3) := dk_182 1 154 (dk_at dksX8_said_1 16 rfl rfl)
theorem dX8_said_43 : decode cX8_said 43 = .ok (.pop, 1) := dk_87 (dk_at dksX8_said_1 19 rfl rfl)
theorem dX8_said_44 : decode cX8_said 44 = .ok (.iconst 5, 1) := dk_8 (dk_at dksX8_said_1 20 rfl rfl)
theorem dX8_said_45 : decode cX8_said 45 = .ok (.iload_n 1, 1) := dk_27 (dk_at dksX8_said_1 21 rfl rfl)
theorem dX8_said_46 : decode cX8_said 46 = .ok (.imul, 1) := dk_104 (dk_at dksX8_said_1 22 rfl rfl)
theorem dX8_said_47 : decode cX8_said 47 = .ok (.iload_n 2, 1) := dk_28 (dk_at dksX8_said_1 23 rfl rfl)
theorem dX8_said_48 : decode cX8_said 48 = .ok (.iadd, 1) := dk_96 (dk_at dksX8_said_2 0 rfl rfl)
theorem dX8_said_49 : decode cX8_said 49 = .ok (.istore 4, 2) := dk_54 4 (dk_at dksX8_said_2 1 rfl rfl)
theorem dX8_said_51 : decode cX8_said 51 = .ok (.iload_n 3, 1) := dk_29 (dk_at dksX8_said_2 3 rfl rfl)
theorem dX8_said_52 : decode cX8_said 52 = .ok (.iconst 3, 1) := dk_6 (dk_at dksX8_said_2 4 rfl rfl)
theorem dX8_said_53 : decode cX8_said 53 = .ok (.if_icmp .ne 11, 3) := dk_160 0 11 (dk_at dksX8_said_2 5 rfl rfl)
theorem dX8_said_56 : decode cX8_said 56 = .ok (.aload_n 0, 1) := dk_42 (dk_at dksX8_said_2 8 rfl rfl)
theorem dX8_said_57 : decode cX8_said 57 = .ok (.getfield 114, 3) := dk_180 0 114 (dk_at dksX8_said_2 9 rfl rfl)
theorem dX8_said_60 : decode cX8_said 60 = .ok (.iload 4, 2) := dk_21 4 (dk_at dksX8_said_2 12 rfl rfl)
theorem dX8_said_62 : decode cX8_said 62 = .ok (.iaload, 1) := dk_46 (dk_at dksX8_said_2 14 rfl rfl)
theorem dX8_said_63 : decode cX8_said 63 = .ok (.ireturn, 1) := dk_172 (dk_at dksX8_said_2 15 rfl rfl)
theorem dX8_said_64 : decode cX8_said 64 = .ok (.aload_n 0, 1) := dk_42 (dk_at dksX8_said_2 16 rfl rfl)
theorem dX8_said_65 : decode cX8_said 65 = .ok (.getfield 106, 3) := dk_180 0 106 (dk_at dksX8_said_2 17 rfl rfl)
theorem dX8_said_68 : decode cX8_said 68 = .ok (.iload 4, 2) := dk_21 4 (dk_at dksX8_said_2 20 rfl rfl)
theorem dX8_said_70 : decode cX8_said 70 = .ok (.iaload, 1) := dk_46 (dk_at dksX8_said_2 22 rfl rfl)
theorem dX8_said_71 : decode cX8_said 71 = .ok (.iconst (-1), 1) := dk_2 (dk_at dksX8_said_2 23 rfl rfl)
theorem dX8_said_72 : decode cX8_said 72 = .ok (.if_icmp .ne 7, 3) := dk_160 0 7 (dk_at dksX8_said_3 0 rfl rfl)
theorem dX8_said_75 : decode cX8_said 75 = .ok (.iconst (-1), 1) := dk_2 (dk_at dksX8_said_3 3 rfl rfl)
theorem dX8_said_76 : decode cX8_said 76 = .ok (.goto 39, 3) := dk_167 0 39 (dk_at dksX8_said_3 4 rfl rfl)
theorem dX8_said_79 : decode cX8_said 79 = .ok (.iload_n 3, 1) := dk_29 (dk_at dksX8_said_3 7 rfl rfl)
theorem dX8_said_80 : decode cX8_said 80 = .ok (.ifCond .ne 13, 3) := dk_154 0 13 (dk_at dksX8_said_3 8 rfl rfl)
theorem dX8_said_83 : decode cX8_said 83 = .ok (.aload_n 0, 1) := dk_42 (dk_at dksX8_said_3 11 rfl rfl)
theorem dX8_said_84 : decode cX8_said 84 = .ok (.getfield 106, 3) := dk_180 0 106 (dk_at dksX8_said_3 12 rfl rfl)
theorem dX8_said_87 : decode cX8_said 87 = .ok (.iload 4, 2) := dk_21 4 (dk_at dksX8_said_3 15 rfl rfl)
theorem dX8_said_89 : decode cX8_said 89 = .ok (.iaload, 1) := dk_46 (dk_at dksX8_said_3 17 rfl rfl)
theorem dX8_said_90 : decode cX8_said 90 = .ok (.goto 25, 3) := dk_167 0 25 (dk_at dksX8_said_3 18 rfl rfl)
theorem dX8_said_93 : decode cX8_said 93 = .ok (.iload_n 3, 1) := dk_29 (dk_at dksX8_said_3 21 rfl rfl)
theorem dX8_said_94 : decode cX8_said 94 = .ok (.iconst 1, 1) := dk_4 (dk_at dksX8_said_3 22 rfl rfl)
theorem dX8_said_95 : decode cX8_said 95 = .ok (.if_icmp .ne 13, 3) := dk_160 0 13 (dk_at dksX8_said_4 0 rfl rfl)
theorem dX8_said_98 : decode cX8_said 98 = .ok (.aload_n 0, 1) := dk_42 (dk_at dksX8_said_4 3 rfl rfl)
theorem dX8_said_99 : decode cX8_said 99 = .ok (.getfield 108, 3) := dk_180 0 108 (dk_at dksX8_said_4 4 rfl rfl)
theorem dX8_said_102 : decode cX8_said 102 = .ok (.iload 4, 2) := dk_21 4 (dk_at dksX8_said_4 7 rfl rfl)
theorem dX8_said_104 : decode cX8_said 104 = .ok (.iaload, 1) := dk_46 (dk_at dksX8_said_4 9 rfl rfl)
theorem dX8_said_105 : decode cX8_said 105 = .ok (.goto 10, 3) := dk_167 0 10 (dk_at dksX8_said_4 10 rfl rfl)
theorem dX8_said_108 : decode cX8_said 108 = .ok (.aload_n 0, 1) := dk_42 (dk_at dksX8_said_4 13 rfl rfl)
theorem dX8_said_109 : decode cX8_said 109 = .ok (.getfield 111, 3) := dk_180 0 111 (dk_at dksX8_said_4 14 rfl rfl)
theorem dX8_said_112 : decode cX8_said 112 = .ok (.iload 4, 2) := dk_21 4 (dk_at dksX8_said_4 17 rfl rfl)
theorem dX8_said_114 : decode cX8_said 114 = .ok (.iaload, 1) := dk_46 (dk_at dksX8_said_4 19 rfl rfl)
theorem dX8_said_115 : decode cX8_said 115 = .ok (.ireturn, 1) := dk_172 (dk_at dksX8_said_4 20 rfl rfl)
abbrev cX8_met : ByteArray := prog_20_method_73_code
def yX8_met : MethodName := ⟨RX8, "met", "(II)I"⟩
def dkwX8_met_2 : List UInt8 := [8, 27, 104, 28, 96, 46, 184, 1, 160, 172]
abbrev dktX8_met_2 : List UInt8 := dkwX8_met_2 ++ []
def dkwX8_met_1 : List UInt8 := [182, 1, 42, 172, 27, 28, 160, 0, 9, 42, 5, 182, 1, 42, 172, 42, 182, 1, 154, 87, 42, 180, 0, 97]
abbrev dktX8_met_1 : List UInt8 := dkwX8_met_1 ++ dktX8_met_2
def dkwX8_met_0 : List UInt8 := [42, 3, 181, 0, 150, 42, 27, 182, 1, 163, 153, 0, 11, 42, 28, 182, 1, 163, 154, 0, 9, 42, 4]
abbrev dktX8_met_0 : List UInt8 := dkwX8_met_0 ++ dktX8_met_1
theorem dksX8_met_0 : cX8_met.data.toList.drop 0 = dktX8_met_0 := by decide +kernel
theorem dksX8_met_1 : cX8_met.data.toList.drop 23 = dktX8_met_1 := dk_seg dksX8_met_0 23 rfl rfl
theorem dksX8_met_2 : cX8_met.data.toList.drop 47 = dktX8_met_2 := dk_seg dksX8_met_1 24 rfl rfl
theorem dX8_met_0 : decode cX8_met 0 = .ok (.aload_n 0, 1) := dk_42 (dk_at dksX8_met_0 0 rfl rfl)
theorem dX8_met_1 : decode cX8_met 1 = .ok (.iconst 0, 1) := dk_3 (dk_at dksX8_met_0 1 rfl rfl)
theorem dX8_met_2 : decode cX8_met 2 = .ok (.putfield 150, 3) := dk_181 0 150 (dk_at dksX8_met_0 2 rfl rfl)
theorem dX8_met_5 : decode cX8_met 5 = .ok (.aload_n 0, 1) := dk_42 (dk_at dksX8_met_0 5 rfl rfl)
theorem dX8_met_6 : decode cX8_met 6 = .ok (.iload_n 1, 1) := dk_27 (dk_at dksX8_met_0 6 rfl rfl)
theorem dX8_met_7 : decode cX8_met 7 = .ok (.invokevirtual 419, 3) := dk_182 1 163 (dk_at dksX8_met_0 7 rfl rfl)
theorem dX8_met_10 : decode cX8_met 10 = .ok (.ifCond .eq 11, 3) := dk_153 0 11 (dk_at dksX8_met_0 10 rfl rfl)
theorem dX8_met_13 : decode cX8_met 13 = .ok (.aload_n 0, 1) := dk_42 (dk_at dksX8_met_0 13 rfl rfl)
theorem dX8_met_14 : decode cX8_met 14 = .ok (.iload_n 2, 1) := dk_28 (dk_at dksX8_met_0 14 rfl rfl)
theorem dX8_met_15 : decode cX8_met 15 = .ok (.invokevirtual 419, 3) := dk_182 1 163 (dk_at dksX8_met_0 15 rfl rfl)
theorem dX8_met_18 : decode cX8_met 18 = .ok (.ifCond .ne 9, 3) := dk_154 0 9 (dk_at dksX8_met_0 18 rfl rfl)
theorem dX8_met_21 : decode cX8_met 21 = .ok (.aload_n 0, 1) := dk_42 (dk_at dksX8_met_0 21 rfl rfl)
theorem dX8_met_22 : decode cX8_met 22 = .ok (.iconst 1, 1) := dk_4 (dk_at dksX8_met_0 22 rfl rfl)
theorem dX8_met_23 : decode cX8_met 23 = .ok (.invokevirtual 298, 3) := dk_182 1 42 (dk_at dksX8_met_1 0 rfl rfl)
theorem dX8_met_26 : decode cX8_met 26 = .ok (.ireturn, 1) := dk_172 (dk_at dksX8_met_1 3 rfl rfl)
theorem dX8_met_27 : decode cX8_met 27 = .ok (.iload_n 1, 1) := dk_27 (dk_at dksX8_met_1 4 rfl rfl)
theorem dX8_met_28 : decode cX8_met 28 = .ok (.iload_n 2, 1) := dk_28 (dk_at dksX8_met_1 5 rfl rfl)
theorem dX8_met_29 : decode cX8_met 29 = .ok (.if_icmp .ne 9, 3) := dk_160 0 9 (dk_at dksX8_met_1 6 rfl rfl)
theorem dX8_met_32 : decode cX8_met 32 = .ok (.aload_n 0, 1) := dk_42 (dk_at dksX8_met_1 9 rfl rfl)
theorem dX8_met_33 : decode cX8_met 33 = .ok (.iconst 2, 1) := dk_5 (dk_at dksX8_met_1 10 rfl rfl)
theorem dX8_met_34 : decode cX8_met 34 = .ok (.invokevirtual 298, 3) := dk_182 1 42 (dk_at dksX8_met_1 11 rfl rfl)
theorem dX8_met_37 : decode cX8_met 37 = .ok (.ireturn, 1) := dk_172 (dk_at dksX8_met_1 14 rfl rfl)
theorem dX8_met_38 : decode cX8_met 38 = .ok (.aload_n 0, 1) := dk_42 (dk_at dksX8_met_1 15 rfl rfl)
theorem dX8_met_39 : decode cX8_met 39 = .ok (.invokevirtual 410, 3) := dk_182 1 154 (dk_at dksX8_met_1 16 rfl rfl)
theorem dX8_met_42 : decode cX8_met 42 = .ok (.pop, 1) := dk_87 (dk_at dksX8_met_1 19 rfl rfl)
theorem dX8_met_43 : decode cX8_met 43 = .ok (.aload_n 0, 1) := dk_42 (dk_at dksX8_met_1 20 rfl rfl)
theorem dX8_met_44 : decode cX8_met 44 = .ok (.getfield 97, 3) := dk_180 0 97 (dk_at dksX8_met_1 21 rfl rfl)
theorem dX8_met_47 : decode cX8_met 47 = .ok (.iconst 5, 1) := dk_8 (dk_at dksX8_met_2 0 rfl rfl)
theorem dX8_met_48 : decode cX8_met 48 = .ok (.iload_n 1, 1) := dk_27 (dk_at dksX8_met_2 1 rfl rfl)
theorem dX8_met_49 : decode cX8_met 49 = .ok (.imul, 1) := dk_104 (dk_at dksX8_met_2 2 rfl rfl)
theorem dX8_met_50 : decode cX8_met 50 = .ok (.iload_n 2, 1) := dk_28 (dk_at dksX8_met_2 3 rfl rfl)
theorem dX8_met_51 : decode cX8_met 51 = .ok (.iadd, 1) := dk_96 (dk_at dksX8_met_2 4 rfl rfl)
theorem dX8_met_52 : decode cX8_met 52 = .ok (.iaload, 1) := dk_46 (dk_at dksX8_met_2 5 rfl rfl)
theorem dX8_met_53 : decode cX8_met 53 = .ok (.invokestatic 416, 3) := dk_184 1 160 (dk_at dksX8_met_2 6 rfl rfl)
theorem dX8_met_56 : decode cX8_met 56 = .ok (.ireturn, 1) := dk_172 (dk_at dksX8_met_2 9 rfl rfl)
abbrev cX8_guilty : ByteArray := prog_20_method_74_code
def yX8_guilty : MethodName := ⟨RX8, "guilty", "(II)I"⟩
def dkwX8_guilty_2 : List UInt8 := [167, 0, 9, 42, 180, 0, 120, 27, 46, 172]
abbrev dktX8_guilty_2 : List UInt8 := dkwX8_guilty_2 ++ []
def dkwX8_guilty_1 : List UInt8 := [182, 1, 42, 172, 42, 182, 1, 154, 87, 28, 154, 0, 15, 42, 180, 0, 117, 27, 46, 184, 1, 160]
abbrev dktX8_guilty_1 : List UInt8 := dkwX8_guilty_1 ++ dktX8_guilty_2
def dkwX8_guilty_0 : List UInt8 := [42, 3, 181, 0, 150, 42, 27, 182, 1, 168, 153, 0, 12, 28, 155, 0, 8, 28, 4, 164, 0, 9, 42, 4]
abbrev dktX8_guilty_0 : List UInt8 := dkwX8_guilty_0 ++ dktX8_guilty_1
theorem dksX8_guilty_0 : cX8_guilty.data.toList.drop 0 = dktX8_guilty_0 := by decide +kernel
theorem dksX8_guilty_1 : cX8_guilty.data.toList.drop 24 = dktX8_guilty_1 := dk_seg dksX8_guilty_0 24 rfl rfl
theorem dksX8_guilty_2 : cX8_guilty.data.toList.drop 46 = dktX8_guilty_2 := dk_seg dksX8_guilty_1 22 rfl rfl
theorem dX8_guilty_0 : decode cX8_guilty 0 = .ok (.aload_n 0, 1) := dk_42 (dk_at dksX8_guilty_0 0 rfl rfl)
theorem dX8_guilty_1 : decode cX8_guilty 1 = .ok (.iconst 0, 1) := dk_3 (dk_at dksX8_guilty_0 1 rfl rfl)
theorem dX8_guilty_2 : decode cX8_guilty 2 = .ok (.putfield 150, 3) := dk_181 0 150 (dk_at dksX8_guilty_0 2 rfl rfl)
theorem dX8_guilty_5 : decode cX8_guilty 5 = .ok (.aload_n 0, 1) := dk_42 (dk_at dksX8_guilty_0 5 rfl rfl)
theorem dX8_guilty_6 : decode cX8_guilty 6 = .ok (.iload_n 1, 1) := dk_27 (dk_at dksX8_guilty_0 6 rfl rfl)
theorem dX8_guilty_7 : decode cX8_guilty 7 = .ok (.invokevirtual 424, 3) := dk_182 1 168 (dk_at dksX8_guilty_0 7 rfl rfl)
theorem dX8_guilty_10 : decode cX8_guilty 10 = .ok (.ifCond .eq 12, 3) := dk_153 0 12 (dk_at dksX8_guilty_0 10 rfl rfl)
theorem dX8_guilty_13 : decode cX8_guilty 13 = .ok (.iload_n 2, 1) := dk_28 (dk_at dksX8_guilty_0 13 rfl rfl)
theorem dX8_guilty_14 : decode cX8_guilty 14 = .ok (.ifCond .lt 8, 3) := dk_155 0 8 (dk_at dksX8_guilty_0 14 rfl rfl)
theorem dX8_guilty_17 : decode cX8_guilty 17 = .ok (.iload_n 2, 1) := dk_28 (dk_at dksX8_guilty_0 17 rfl rfl)
theorem dX8_guilty_18 : decode cX8_guilty 18 = .ok (.iconst 1, 1) := dk_4 (dk_at dksX8_guilty_0 18 rfl rfl)
theorem dX8_guilty_19 : decode cX8_guilty 19 = .ok (.if_icmp .le 9, 3) := dk_164 0 9 (dk_at dksX8_guilty_0 19 rfl rfl)
theorem dX8_guilty_22 : decode cX8_guilty 22 = .ok (.aload_n 0, 1) := dk_42 (dk_at dksX8_guilty_0 22 rfl rfl)
theorem dX8_guilty_23 : decode cX8_guilty 23 = .ok (.iconst 1, 1) := dk_4 (dk_at dksX8_guilty_0 23 rfl rfl)
theorem dX8_guilty_24 : decode cX8_guilty 24 = .ok (.invokevirtual 298, 3) := dk_182 1 42 (dk_at dksX8_guilty_1 0 rfl rfl)
theorem dX8_guilty_27 : decode cX8_guilty 27 = .ok (.ireturn, 1) := dk_172 (dk_at dksX8_guilty_1 3 rfl rfl)
theorem dX8_guilty_28 : decode cX8_guilty 28 = .ok (.aload_n 0, 1) := dk_42 (dk_at dksX8_guilty_1 4 rfl rfl)
theorem dX8_guilty_29 : decode cX8_guilty 29 = .ok (.invokevirtual 410, 3) := dk_182 1 154 (dk_at dksX8_guilty_1 5 rfl rfl)
theorem dX8_guilty_32 : decode cX8_guilty 32 = .ok (.pop, 1) := dk_87 (dk_at dksX8_guilty_1 8 rfl rfl)
theorem dX8_guilty_33 : decode cX8_guilty 33 = .ok (.iload_n 2, 1) := dk_28 (dk_at dksX8_guilty_1 9 rfl rfl)
theorem dX8_guilty_34 : decode cX8_guilty 34 = .ok (.ifCond .ne 15, 3) := dk_154 0 15 (dk_at dksX8_guilty_1 10 rfl rfl)
theorem dX8_guilty_37 : decode cX8_guilty 37 = .ok (.aload_n 0, 1) := dk_42 (dk_at dksX8_guilty_1 13 rfl rfl)
theorem dX8_guilty_38 : decode cX8_guilty 38 = .ok (.getfield 117, 3) := dk_180 0 117 (dk_at dksX8_guilty_1 14 rfl rfl)
theorem dX8_guilty_41 : decode cX8_guilty 41 = .ok (.iload_n 1, 1) := dk_27 (dk_at dksX8_guilty_1 17 rfl rfl)
theorem dX8_guilty_42 : decode cX8_guilty 42 = .ok (.iaload, 1) := dk_46 (dk_at dksX8_guilty_1 18 rfl rfl)
theorem dX8_guilty_43 : decode cX8_guilty 43 = .ok (.invokestatic 416, 3) := dk_184 1 160 (dk_at dksX8_guilty_1 19 rfl rfl)
theorem dX8_guilty_46 : decode cX8_guilty 46 = .ok (.goto 9, 3) := dk_167 0 9 (dk_at dksX8_guilty_2 0 rfl rfl)
theorem dX8_guilty_49 : decode cX8_guilty 49 = .ok (.aload_n 0, 1) := dk_42 (dk_at dksX8_guilty_2 3 rfl rfl)
theorem dX8_guilty_50 : decode cX8_guilty 50 = .ok (.getfield 120, 3) := dk_180 0 120 (dk_at dksX8_guilty_2 4 rfl rfl)
theorem dX8_guilty_53 : decode cX8_guilty 53 = .ok (.iload_n 1, 1) := dk_27 (dk_at dksX8_guilty_2 7 rfl rfl)
theorem dX8_guilty_54 : decode cX8_guilty 54 = .ok (.iaload, 1) := dk_46 (dk_at dksX8_guilty_2 8 rfl rfl)
theorem dX8_guilty_55 : decode cX8_guilty 55 = .ok (.ireturn, 1) := dk_172 (dk_at dksX8_guilty_2 9 rfl rfl)
abbrev cX8_news : ByteArray := prog_20_method_75_code
def yX8_news : MethodName := ⟨RX8, "news", "(II)I"⟩
def dkwX8_news_3 : List UInt8 := [167, 255, 229, 29, 184, 1, 160, 172]
abbrev dktX8_news_3 : List UInt8 := dkwX8_news_3 ++ []
def dkwX8_news_2 : List UInt8 := [180, 0, 34, 7, 46, 162, 0, 22, 29, 42, 27, 21, 4, 28, 182, 1, 116, 184, 0, 187, 62, 132, 4, 1]
abbrev dktX8_news_2 : List UInt8 := dkwX8_news_2 ++ dktX8_news_3
def dkwX8_news_1 : List UInt8 := [182, 1, 42, 172, 42, 182, 1, 154, 87, 42, 27, 28, 182, 1, 113, 62, 3, 54, 4, 21, 4, 42]
abbrev dktX8_news_1 : List UInt8 := dkwX8_news_1 ++ dktX8_news_2
def dkwX8_news_0 : List UInt8 := [42, 3, 181, 0, 150, 42, 27, 182, 1, 168, 153, 0, 11, 42, 28, 182, 1, 157, 154, 0, 9, 42, 4]
abbrev dktX8_news_0 : List UInt8 := dkwX8_news_0 ++ dktX8_news_1
theorem dksX8_news_0 : cX8_news.data.toList.drop 0 = dktX8_news_0 := by decide +kernel
theorem dksX8_news_1 : cX8_news.data.toList.drop 23 = dktX8_news_1 := dk_seg dksX8_news_0 23 rfl rfl
theorem dksX8_news_2 : cX8_news.data.toList.drop 45 = dktX8_news_2 := dk_seg dksX8_news_1 22 rfl rfl
theorem dksX8_news_3 : cX8_news.data.toList.drop 69 = dktX8_news_3 := dk_seg dksX8_news_2 24 rfl rfl
theorem dX8_news_0 : decode cX8_news 0 = .ok (.aload_n 0, 1) := dk_42 (dk_at dksX8_news_0 0 rfl rfl)
theorem dX8_news_1 : decode cX8_news 1 = .ok (.iconst 0, 1) := dk_3 (dk_at dksX8_news_0 1 rfl rfl)
theorem dX8_news_2 : decode cX8_news 2 = .ok (.putfield 150, 3) := dk_181 0 150 (dk_at dksX8_news_0 2 rfl rfl)
theorem dX8_news_5 : decode cX8_news 5 = .ok (.aload_n 0, 1) := dk_42 (dk_at dksX8_news_0 5 rfl rfl)
theorem dX8_news_6 : decode cX8_news 6 = .ok (.iload_n 1, 1) := dk_27 (dk_at dksX8_news_0 6 rfl rfl)
theorem dX8_news_7 : decode cX8_news 7 = .ok (.invokevirtual 424, 3) := dk_182 1 168 (dk_at dksX8_news_0 7 rfl rfl)
theorem dX8_news_10 : decode cX8_news 10 = .ok (.ifCond .eq 11, 3) := dk_153 0 11 (dk_at dksX8_news_0 10 rfl rfl)
theorem dX8_news_13 : decode cX8_news 13 = .ok (.aload_n 0, 1) := dk_42 (dk_at dksX8_news_0 13 rfl rfl)
theorem dX8_news_14 : decode cX8_news 14 = .ok (.iload_n 2, 1) := dk_28 (dk_at dksX8_news_0 14 rfl rfl)
theorem dX8_news_15 : decode cX8_news 15 = .ok (.invokevirtual 413, 3) := dk_182 1 157 (dk_at dksX8_news_0 15 rfl rfl)
theorem dX8_news_18 : decode cX8_news 18 = .ok (.ifCond .ne 9, 3) := dk_154 0 9 (dk_at dksX8_news_0 18 rfl rfl)
theorem dX8_news_21 : decode cX8_news 21 = .ok (.aload_n 0, 1) := dk_42 (dk_at dksX8_news_0 21 rfl rfl)
theorem dX8_news_22 : decode cX8_news 22 = .ok (.iconst 1, 1) := dk_4 (dk_at dksX8_news_0 22 rfl rfl)
theorem dX8_news_23 : decode cX8_news 23 = .ok (.invokevirtual 298, 3) := dk_182 1 42 (dk_at dksX8_news_1 0 rfl rfl)
theorem dX8_news_26 : decode cX8_news 26 = .ok (.ireturn, 1) := dk_172 (dk_at dksX8_news_1 3 rfl rfl)
theorem dX8_news_27 : decode cX8_news 27 = .ok (.aload_n 0, 1) := dk_42 (dk_at dksX8_news_1 4 rfl rfl)
theorem dX8_news_28 : decode cX8_news 28 = .ok (.invokevirtual 410, 3) := dk_182 1 154 (dk_at dksX8_news_1 5 rfl rfl)
theorem dX8_news_31 : decode cX8_news 31 = .ok (.pop, 1) := dk_87 (dk_at dksX8_news_1 8 rfl rfl)
theorem dX8_news_32 : decode cX8_news 32 = .ok (.aload_n 0, 1) := dk_42 (dk_at dksX8_news_1 9 rfl rfl)
theorem dX8_news_33 : decode cX8_news 33 = .ok (.iload_n 1, 1) := dk_27 (dk_at dksX8_news_1 10 rfl rfl)
theorem dX8_news_34 : decode cX8_news 34 = .ok (.iload_n 2, 1) := dk_28 (dk_at dksX8_news_1 11 rfl rfl)
theorem dX8_news_35 : decode cX8_news 35 = .ok (.invokevirtual 369, 3) := dk_182 1 113 (dk_at dksX8_news_1 12 rfl rfl)
theorem dX8_news_38 : decode cX8_news 38 = .ok (.istore_n 3, 1) := dk_62 (dk_at dksX8_news_1 15 rfl rfl)
theorem dX8_news_39 : decode cX8_news 39 = .ok (.iconst 0, 1) := dk_3 (dk_at dksX8_news_1 16 rfl rfl)
theorem dX8_news_40 : decode cX8_news 40 = .ok (.istore 4, 2) := dk_54 4 (dk_at dksX8_news_1 17 rfl rfl)
theorem dX8_news_42 : decode cX8_news 42 = .ok (.iload 4, 2) := dk_21 4 (dk_at dksX8_news_1 19 rfl rfl)
theorem dX8_news_44 : decode cX8_news 44 = .ok (.aload_n 0, 1) := dk_42 (dk_at dksX8_news_1 21 rfl rfl)
theorem dX8_news_45 : decode cX8_news 45 = .ok (.getfield 34, 3) := dk_180 0 34 (dk_at dksX8_news_2 0 rfl rfl)
theorem dX8_news_48 : decode cX8_news 48 = .ok (.iconst 4, 1) := dk_7 (dk_at dksX8_news_2 3 rfl rfl)
theorem dX8_news_49 : decode cX8_news 49 = .ok (.iaload, 1) := dk_46 (dk_at dksX8_news_2 4 rfl rfl)
theorem dX8_news_50 : decode cX8_news 50 = .ok (.if_icmp .ge 22, 3) := dk_162 0 22 (dk_at dksX8_news_2 5 rfl rfl)
theorem dX8_news_53 : decode cX8_news 53 = .ok (.iload_n 3, 1) := dk_29 (dk_at dksX8_news_2 8 rfl rfl)
theorem dX8_news_54 : decode cX8_news 54 = .ok (.aload_n 0, 1) := dk_42 (dk_at dksX8_news_2 9 rfl rfl)
theorem dX8_news_55 : decode cX8_news 55 = .ok (.iload_n 1, 1) := dk_27 (dk_at dksX8_news_2 10 rfl rfl)
theorem dX8_news_56 : decode cX8_news 56 = .ok (.iload 4, 2) := dk_21 4 (dk_at dksX8_news_2 11 rfl rfl)
theorem dX8_news_58 : decode cX8_news 58 = .ok (.iload_n 2, 1) := dk_28 (dk_at dksX8_news_2 13 rfl rfl)
theorem dX8_news_59 : decode cX8_news 59 = .ok (.invokevirtual 372, 3) := dk_182 1 116 (dk_at dksX8_news_2 14 rfl rfl)
theorem dX8_news_62 : decode cX8_news 62 = .ok (.invokestatic 187, 3) := dk_184 0 187 (dk_at dksX8_news_2 17 rfl rfl)
theorem dX8_news_65 : decode cX8_news 65 = .ok (.istore_n 3, 1) := dk_62 (dk_at dksX8_news_2 20 rfl rfl)
theorem dX8_news_66 : decode cX8_news 66 = .ok (.iinc 4 1, 3) := dk_132 4 1 (dk_at dksX8_news_2 21 rfl rfl)
theorem dX8_news_69 : decode cX8_news 69 = .ok (.goto (-27), 3) := dk_167 255 229 (dk_at dksX8_news_3 0 rfl rfl)
theorem dX8_news_72 : decode cX8_news 72 = .ok (.iload_n 3, 1) := dk_29 (dk_at dksX8_news_3 3 rfl rfl)
theorem dX8_news_73 : decode cX8_news 73 = .ok (.invokestatic 416, 3) := dk_184 1 160 (dk_at dksX8_news_3 4 rfl rfl)
theorem dX8_news_76 : decode cX8_news 76 = .ok (.ireturn, 1) := dk_172 (dk_at dksX8_news_3 7 rfl rfl)
abbrev cX8_start : ByteArray := prog_20_method_78_code
def yX8_start : MethodName := ⟨RX8, "start", "(II)I"⟩
def dkwX8_start_2 : List UInt8 := [46, 62, 42, 180, 0, 44, 27, 28, 79, 29, 172]
abbrev dktX8_start_2 : List UInt8 := dkwX8_start_2 ++ []
def dkwX8_start_1 : List UInt8 := [20, 1, 177, 184, 0, 153, 154, 0, 9, 42, 4, 182, 1, 179, 172, 42, 182, 1, 182, 42, 180, 0, 44, 27]
abbrev dktX8_start_1 : List UInt8 := dkwX8_start_1 ++ dktX8_start_2
def dkwX8_start_0 : List UInt8 := [42, 3, 181, 0, 150, 42, 27, 182, 1, 163, 154, 0, 9, 42, 4, 182, 1, 42, 172, 28, 133, 9]
abbrev dktX8_start_0 : List UInt8 := dkwX8_start_0 ++ dktX8_start_1
theorem dksX8_start_0 : cX8_start.data.toList.drop 0 = dktX8_start_0 := by decide +kernel
theorem dksX8_start_1 : cX8_start.data.toList.drop 22 = dktX8_start_1 := dk_seg dksX8_start_0 22 rfl rfl
theorem dksX8_start_2 : cX8_start.data.toList.drop 46 = dktX8_start_2 := dk_seg dksX8_start_1 24 rfl rfl
theorem dX8_start_0 : decode cX8_start 0 = .ok (.aload_n 0, 1) := dk_42 (dk_at dksX8_start_0 0 rfl rfl)
theorem dX8_start_1 : decode cX8_start 1 = .ok (.iconst 0, 1) := dk_3 (dk_at dksX8_start_0 1 rfl rfl)
theorem dX8_start_2 : decode cX8_start 2 = .ok (.putfield 150, 3) := dk_181 0 150 (dk_at dksX8_start_0 2 rfl rfl)
theorem dX8_start_5 : decode cX8_start 5 = .ok (.aload_n 0, 1) := dk_42 (dk_at dksX8_start_0 5 rfl rfl)
theorem dX8_start_6 : decode cX8_start 6 = .ok (.iload_n 1, 1) := dk_27 (dk_at dksX8_start_0 6 rfl rfl)
theorem dX8_start_7 : decode cX8_start 7 = .ok (.invokevirtual 419, 3) := dk_182 1 163 (dk_at dksX8_start_0 7 rfl rfl)
theorem dX8_start_10 : decode cX8_start 10 = .ok (.ifCond .ne 9, 3) := dk_154 0 9 (dk_at dksX8_start_0 10 rfl rfl)
theorem dX8_start_13 : decode cX8_start 13 = .ok (.aload_n 0, 1) := dk_42 (dk_at dksX8_start_0 13 rfl rfl)
theorem dX8_start_14 : decode cX8_start 14 = .ok (.iconst 1, 1) := dk_4 (dk_at dksX8_start_0 14 rfl rfl)
theorem dX8_start_15 : decode cX8_start 15 = .ok (.invokevirtual 298, 3) := dk_182 1 42 (dk_at dksX8_start_0 15 rfl rfl)
theorem dX8_start_18 : decode cX8_start 18 = .ok (.ireturn, 1) := dk_172 (dk_at dksX8_start_0 18 rfl rfl)
theorem dX8_start_19 : decode cX8_start 19 = .ok (.iload_n 2, 1) := dk_28 (dk_at dksX8_start_0 19 rfl rfl)
theorem dX8_start_20 : decode cX8_start 20 = .ok (.i2l, 1) := dk_133 (dk_at dksX8_start_0 20 rfl rfl)
theorem dX8_start_21 : decode cX8_start 21 = .ok (.lconst 0, 1) := dk_9 (dk_at dksX8_start_0 21 rfl rfl)
theorem dX8_start_22 : decode cX8_start 22 = .ok (.ldc2_w 433, 3) := dk_20 1 177 (dk_at dksX8_start_1 0 rfl rfl)
theorem dX8_start_25 : decode cX8_start 25 = .ok (.invokestatic 153, 3) := dk_184 0 153 (dk_at dksX8_start_1 3 rfl rfl)
theorem dX8_start_28 : decode cX8_start 28 = .ok (.ifCond .ne 9, 3) := dk_154 0 9 (dk_at dksX8_start_1 6 rfl rfl)
theorem dX8_start_31 : decode cX8_start 31 = .ok (.aload_n 0, 1) := dk_42 (dk_at dksX8_start_1 9 rfl rfl)
theorem dX8_start_32 : decode cX8_start 32 = .ok (.iconst 1, 1) := dk_4 (dk_at dksX8_start_1 10 rfl rfl)
theorem dX8_start_33 : decode cX8_start 33 = .ok (.invokevirtual 435, 3) := dk_182 1 179 (dk_at dksX8_start_1 11 rfl rfl)
theorem dX8_start_36 : decode cX8_start 36 = .ok (.ireturn, 1) := dk_172 (dk_at dksX8_start_1 14 rfl rfl)
theorem dX8_start_37 : decode cX8_start 37 = .ok (.aload_n 0, 1) := dk_42 (dk_at dksX8_start_1 15 rfl rfl)
theorem dX8_start_38 : decode cX8_start 38 = .ok (.invokevirtual 438, 3) := dk_182 1 182 (dk_at dksX8_start_1 16 rfl rfl)
theorem dX8_start_41 : decode cX8_start 41 = .ok (.aload_n 0, 1) := dk_42 (dk_at dksX8_start_1 19 rfl rfl)
theorem dX8_start_42 : decode cX8_start 42 = .ok (.getfield 44, 3) := dk_180 0 44 (dk_at dksX8_start_1 20 rfl rfl)
theorem dX8_start_45 : decode cX8_start 45 = .ok (.iload_n 1, 1) := dk_27 (dk_at dksX8_start_1 23 rfl rfl)
theorem dX8_start_46 : decode cX8_start 46 = .ok (.iaload, 1) := dk_46 (dk_at dksX8_start_2 0 rfl rfl)
theorem dX8_start_47 : decode cX8_start 47 = .ok (.istore_n 3, 1) := dk_62 (dk_at dksX8_start_2 1 rfl rfl)
theorem dX8_start_48 : decode cX8_start 48 = .ok (.aload_n 0, 1) := dk_42 (dk_at dksX8_start_2 2 rfl rfl)
theorem dX8_start_49 : decode cX8_start 49 = .ok (.getfield 44, 3) := dk_180 0 44 (dk_at dksX8_start_2 3 rfl rfl)
theorem dX8_start_52 : decode cX8_start 52 = .ok (.iload_n 1, 1) := dk_27 (dk_at dksX8_start_2 6 rfl rfl)
theorem dX8_start_53 : decode cX8_start 53 = .ok (.iload_n 2, 1) := dk_28 (dk_at dksX8_start_2 7 rfl rfl)
theorem dX8_start_54 : decode cX8_start 54 = .ok (.iastore, 1) := dk_79 (dk_at dksX8_start_2 8 rfl rfl)
theorem dX8_start_55 : decode cX8_start 55 = .ok (.iload_n 3, 1) := dk_29 (dk_at dksX8_start_2 9 rfl rfl)
theorem dX8_start_56 : decode cX8_start 56 = .ok (.ireturn, 1) := dk_172 (dk_at dksX8_start_2 10 rfl rfl)
abbrev cX8_refuse : ByteArray := prog_20_method_76_code
def yX8_refuse : MethodName := ⟨RX8, "refuse", "(I)I"⟩
def dkwX8_refuse_0 : List UInt8 := [42, 180, 0, 60, 27, 92, 46, 4, 96, 79, 2, 172]
abbrev dktX8_refuse_0 : List UInt8 := dkwX8_refuse_0 ++ []
theorem dksX8_refuse_0 : cX8_refuse.data.toList.drop 0 = dktX8_refuse_0 := by decide +kernel
theorem dX8_refuse_0 : decode cX8_refuse 0 = .ok (.aload_n 0, 1) := dk_42 (dk_at dksX8_refuse_0 0 rfl rfl)
theorem dX8_refuse_1 : decode cX8_refuse 1 = .ok (.getfield 60, 3) := dk_180 0 60 (dk_at dksX8_refuse_0 1 rfl rfl)
theorem dX8_refuse_4 : decode cX8_refuse 4 = .ok (.iload_n 1, 1) := dk_27 (dk_at dksX8_refuse_0 4 rfl rfl)
theorem dX8_refuse_5 : decode cX8_refuse 5 = .ok (.dup2, 1) := dk_92 (dk_at dksX8_refuse_0 5 rfl rfl)
theorem dX8_refuse_6 : decode cX8_refuse 6 = .ok (.iaload, 1) := dk_46 (dk_at dksX8_refuse_0 6 rfl rfl)
theorem dX8_refuse_7 : decode cX8_refuse 7 = .ok (.iconst 1, 1) := dk_4 (dk_at dksX8_refuse_0 7 rfl rfl)
theorem dX8_refuse_8 : decode cX8_refuse 8 = .ok (.iadd, 1) := dk_96 (dk_at dksX8_refuse_0 8 rfl rfl)
theorem dX8_refuse_9 : decode cX8_refuse 9 = .ok (.iastore, 1) := dk_79 (dk_at dksX8_refuse_0 9 rfl rfl)
theorem dX8_refuse_10 : decode cX8_refuse 10 = .ok (.iconst (-1), 1) := dk_2 (dk_at dksX8_refuse_0 10 rfl rfl)
theorem dX8_refuse_11 : decode cX8_refuse 11 = .ok (.ireturn, 1) := dk_172 (dk_at dksX8_refuse_0 11 rfl rfl)
abbrev cX8_keep : ByteArray := prog_20_method_77_code
def yX8_keep : MethodName := ⟨RX8, "keep", "()V"⟩
def dkwX8_keep_3 : List UInt8 := [89, 180, 1, 67, 4, 96, 181, 1, 67, 177]
abbrev dktX8_keep_3 : List UInt8 := dkwX8_keep_3 ++ []
def dkwX8_keep_2 : List UInt8 := [180, 1, 67, 4, 100, 181, 1, 67, 42, 42, 180, 0, 82, 16, 45, 42, 180, 1, 67, 104, 182, 1, 173, 42]
abbrev dktX8_keep_2 : List UInt8 := dkwX8_keep_2 ++ dktX8_keep_3
def dkwX8_keep_1 : List UInt8 := [180, 0, 82, 27, 16, 45, 100, 42, 180, 0, 82, 27, 46, 79, 132, 1, 1, 167, 255, 229, 42, 89]
abbrev dktX8_keep_1 : List UInt8 := dkwX8_keep_1 ++ dktX8_keep_2
def dkwX8_keep_0 : List UInt8 := [42, 180, 1, 67, 16, 40, 160, 0, 46, 16, 45, 60, 27, 42, 180, 0, 82, 190, 162, 0, 24, 42]
abbrev dktX8_keep_0 : List UInt8 := dkwX8_keep_0 ++ dktX8_keep_1
theorem dksX8_keep_0 : cX8_keep.data.toList.drop 0 = dktX8_keep_0 := by decide +kernel
theorem dksX8_keep_1 : cX8_keep.data.toList.drop 22 = dktX8_keep_1 := dk_seg dksX8_keep_0 22 rfl rfl
theorem dksX8_keep_2 : cX8_keep.data.toList.drop 44 = dktX8_keep_2 := dk_seg dksX8_keep_1 22 rfl rfl
theorem dksX8_keep_3 : cX8_keep.data.toList.drop 68 = dktX8_keep_3 := dk_seg dksX8_keep_2 24 rfl rfl
theorem dX8_keep_0 : decode cX8_keep 0 = .ok (.aload_n 0, 1) := dk_42 (dk_at dksX8_keep_0 0 rfl rfl)
theorem dX8_keep_1 : decode cX8_keep 1 = .ok (.getfield 323, 3) := dk_180 1 67 (dk_at dksX8_keep_0 1 rfl rfl)
theorem dX8_keep_4 : decode cX8_keep 4 = .ok (.bipush 40, 2) := dk_16 40 (dk_at dksX8_keep_0 4 rfl rfl)
theorem dX8_keep_6 : decode cX8_keep 6 = .ok (.if_icmp .ne 46, 3) := dk_160 0 46 (dk_at dksX8_keep_0 6 rfl rfl)
theorem dX8_keep_9 : decode cX8_keep 9 = .ok (.bipush 45, 2) := dk_16 45 (dk_at dksX8_keep_0 9 rfl rfl)
theorem dX8_keep_11 : decode cX8_keep 11 = .ok (.istore_n 1, 1) := dk_60 (dk_at dksX8_keep_0 11 rfl rfl)
theorem dX8_keep_12 : decode cX8_keep 12 = .ok (.iload_n 1, 1) := dk_27 (dk_at dksX8_keep_0 12 rfl rfl)
theorem dX8_keep_13 : decode cX8_keep 13 = .ok (.aload_n 0, 1) := dk_42 (dk_at dksX8_keep_0 13 rfl rfl)
theorem dX8_keep_14 : decode cX8_keep 14 = .ok (.getfield 82, 3) := dk_180 0 82 (dk_at dksX8_keep_0 14 rfl rfl)
theorem dX8_keep_17 : decode cX8_keep 17 = .ok (.arraylength, 1) := dk_190 (dk_at dksX8_keep_0 17 rfl rfl)
theorem dX8_keep_18 : decode cX8_keep 18 = .ok (.if_icmp .ge 24, 3) := dk_162 0 24 (dk_at dksX8_keep_0 18 rfl rfl)
theorem dX8_keep_21 : decode cX8_keep 21 = .ok (.aload_n 0, 1) := dk_42 (dk_at dksX8_keep_0 21 rfl rfl)
theorem dX8_keep_22 : decode cX8_keep 22 = .ok (.getfield 82, 3) := dk_180 0 82 (dk_at dksX8_keep_1 0 rfl rfl)
theorem dX8_keep_25 : decode cX8_keep 25 = .ok (.iload_n 1, 1) := dk_27 (dk_at dksX8_keep_1 3 rfl rfl)
theorem dX8_keep_26 : decode cX8_keep 26 = .ok (.bipush 45, 2) := dk_16 45 (dk_at dksX8_keep_1 4 rfl rfl)
theorem dX8_keep_28 : decode cX8_keep 28 = .ok (.isub, 1) := dk_100 (dk_at dksX8_keep_1 6 rfl rfl)
theorem dX8_keep_29 : decode cX8_keep 29 = .ok (.aload_n 0, 1) := dk_42 (dk_at dksX8_keep_1 7 rfl rfl)
theorem dX8_keep_30 : decode cX8_keep 30 = .ok (.getfield 82, 3) := dk_180 0 82 (dk_at dksX8_keep_1 8 rfl rfl)
theorem dX8_keep_33 : decode cX8_keep 33 = .ok (.iload_n 1, 1) := dk_27 (dk_at dksX8_keep_1 11 rfl rfl)
theorem dX8_keep_34 : decode cX8_keep 34 = .ok (.iaload, 1) := dk_46 (dk_at dksX8_keep_1 12 rfl rfl)
theorem dX8_keep_35 : decode cX8_keep 35 = .ok (.iastore, 1) := dk_79 (dk_at dksX8_keep_1 13 rfl rfl)
theorem dX8_keep_36 : decode cX8_keep 36 = .ok (.iinc 1 1, 3) := dk_132 1 1 (dk_at dksX8_keep_1 14 rfl rfl)
theorem dX8_keep_39 : decode cX8_keep 39 = .ok (.goto (-27), 3) := dk_167 255 229 (dk_at dksX8_keep_1 17 rfl rfl)
theorem dX8_keep_42 : decode cX8_keep 42 = .ok (.aload_n 0, 1) := dk_42 (dk_at dksX8_keep_1 20 rfl rfl)
theorem dX8_keep_43 : decode cX8_keep 43 = .ok (.dup, 1) := dk_89 (dk_at dksX8_keep_1 21 rfl rfl)
theorem dX8_keep_44 : decode cX8_keep 44 = .ok (.getfield 323, 3) := dk_180 1 67 (dk_at dksX8_keep_2 0 rfl rfl)
theorem dX8_keep_47 : decode cX8_keep 47 = .ok (.iconst 1, 1) := dk_4 (dk_at dksX8_keep_2 3 rfl rfl)
theorem dX8_keep_48 : decode cX8_keep 48 = .ok (.isub, 1) := dk_100 (dk_at dksX8_keep_2 4 rfl rfl)
theorem dX8_keep_49 : decode cX8_keep 49 = .ok (.putfield 323, 3) := dk_181 1 67 (dk_at dksX8_keep_2 5 rfl rfl)
theorem dX8_keep_52 : decode cX8_keep 52 = .ok (.aload_n 0, 1) := dk_42 (dk_at dksX8_keep_2 8 rfl rfl)
theorem dX8_keep_53 : decode cX8_keep 53 = .ok (.aload_n 0, 1) := dk_42 (dk_at dksX8_keep_2 9 rfl rfl)
theorem dX8_keep_54 : decode cX8_keep 54 = .ok (.getfield 82, 3) := dk_180 0 82 (dk_at dksX8_keep_2 10 rfl rfl)
theorem dX8_keep_57 : decode cX8_keep 57 = .ok (.bipush 45, 2) := dk_16 45 (dk_at dksX8_keep_2 13 rfl rfl)
theorem dX8_keep_59 : decode cX8_keep 59 = .ok (.aload_n 0, 1) := dk_42 (dk_at dksX8_keep_2 15 rfl rfl)
theorem dX8_keep_60 : decode cX8_keep 60 = .ok (.getfield 323, 3) := dk_180 1 67 (dk_at dksX8_keep_2 16 rfl rfl)
theorem dX8_keep_63 : decode cX8_keep 63 = .ok (.imul, 1) := dk_104 (dk_at dksX8_keep_2 19 rfl rfl)
theorem dX8_keep_64 : decode cX8_keep 64 = .ok (.invokevirtual 429, 3) := dk_182 1 173 (dk_at dksX8_keep_2 20 rfl rfl)
theorem dX8_keep_67 : decode cX8_keep 67 = .ok (.aload_n 0, 1) := dk_42 (dk_at dksX8_keep_2 23 rfl rfl)
theorem dX8_keep_68 : decode cX8_keep 68 = .ok (.dup, 1) := dk_89 (dk_at dksX8_keep_3 0 rfl rfl)
theorem dX8_keep_69 : decode cX8_keep 69 = .ok (.getfield 323, 3) := dk_180 1 67 (dk_at dksX8_keep_3 1 rfl rfl)
theorem dX8_keep_72 : decode cX8_keep 72 = .ok (.iconst 1, 1) := dk_4 (dk_at dksX8_keep_3 4 rfl rfl)
theorem dX8_keep_73 : decode cX8_keep 73 = .ok (.iadd, 1) := dk_96 (dk_at dksX8_keep_3 5 rfl rfl)
theorem dX8_keep_74 : decode cX8_keep 74 = .ok (.putfield 323, 3) := dk_181 1 67 (dk_at dksX8_keep_3 6 rfl rfl)
theorem dX8_keep_77 : decode cX8_keep 77 = .ok (.return_, 1) := dk_177 (dk_at dksX8_keep_3 9 rfl rfl)
abbrev cX8_pack : ByteArray := prog_20_method_42_code
def yX8_pack : MethodName := ⟨RX8, "pack", "([II)V"⟩
def dkwX8_pack_5 : List UInt8 := [180, 0, 79, 21, 4, 46, 79, 132, 4, 1, 167, 255, 201, 177]
abbrev dktX8_pack_5 : List UInt8 := dkwX8_pack_5 ++ []
def dkwX8_pack_4 : List UInt8 := [16, 12, 96, 21, 4, 96, 42, 180, 0, 76, 21, 4, 46, 79, 43, 29, 16, 24, 96, 21, 4, 96, 42]
abbrev dktX8_pack_4 : List UInt8 := dkwX8_pack_4 ++ dktX8_pack_5
def dkwX8_pack_3 : List UInt8 := [54, 4, 21, 4, 16, 12, 162, 0, 54, 43, 29, 21, 4, 96, 42, 180, 0, 73, 21, 4, 46, 79, 43, 29]
abbrev dktX8_pack_3 : List UInt8 := dkwX8_pack_3 ++ dktX8_pack_4
def dkwX8_pack_2 : List UInt8 := [79, 43, 29, 5, 96, 42, 180, 1, 61, 79, 43, 29, 6, 96, 42, 180, 1, 64, 79, 132, 3, 4, 3]
abbrev dktX8_pack_2 : List UInt8 := dkwX8_pack_2 ++ dktX8_pack_3
def dkwX8_pack_1 : List UInt8 := [132, 4, 1, 167, 255, 234, 132, 3, 5, 43, 29, 42, 180, 1, 55, 79, 43, 29, 4, 96, 42, 180, 1, 58]
abbrev dktX8_pack_1 : List UInt8 := dkwX8_pack_1 ++ dktX8_pack_2
def dkwX8_pack_0 : List UInt8 := [28, 62, 3, 54, 4, 21, 4, 8, 162, 0, 22, 43, 29, 21, 4, 96, 42, 180, 0, 44, 21, 4, 46, 79]
abbrev dktX8_pack_0 : List UInt8 := dkwX8_pack_0 ++ dktX8_pack_1
theorem dksX8_pack_0 : cX8_pack.data.toList.drop 0 = dktX8_pack_0 := by decide +kernel
theorem dksX8_pack_1 : cX8_pack.data.toList.drop 24 = dktX8_pack_1 := dk_seg dksX8_pack_0 24 rfl rfl
theorem dksX8_pack_2 : cX8_pack.data.toList.drop 48 = dktX8_pack_2 := dk_seg dksX8_pack_1 24 rfl rfl
theorem dksX8_pack_3 : cX8_pack.data.toList.drop 71 = dktX8_pack_3 := dk_seg dksX8_pack_2 23 rfl rfl
theorem dksX8_pack_4 : cX8_pack.data.toList.drop 95 = dktX8_pack_4 := dk_seg dksX8_pack_3 24 rfl rfl
theorem dksX8_pack_5 : cX8_pack.data.toList.drop 118 = dktX8_pack_5 := dk_seg dksX8_pack_4 23 rfl rfl
theorem dX8_pack_0 : decode cX8_pack 0 = .ok (.iload_n 2, 1) := dk_28 (dk_at dksX8_pack_0 0 rfl rfl)
theorem dX8_pack_1 : decode cX8_pack 1 = .ok (.istore_n 3, 1) := dk_62 (dk_at dksX8_pack_0 1 rfl rfl)
theorem dX8_pack_2 : decode cX8_pack 2 = .ok (.iconst 0, 1) := dk_3 (dk_at dksX8_pack_0 2 rfl rfl)
theorem dX8_pack_3 : decode cX8_pack 3 = .ok (.istore 4, 2) := dk_54 4 (dk_at dksX8_pack_0 3 rfl rfl)
theorem dX8_pack_5 : decode cX8_pack 5 = .ok (.iload 4, 2) := dk_21 4 (dk_at dksX8_pack_0 5 rfl rfl)
theorem dX8_pack_7 : decode cX8_pack 7 = .ok (.iconst 5, 1) := dk_8 (dk_at dksX8_pack_0 7 rfl rfl)
theorem dX8_pack_8 : decode cX8_pack 8 = .ok (.if_icmp .ge 22, 3) := dk_162 0 22 (dk_at dksX8_pack_0 8 rfl rfl)
theorem dX8_pack_11 : decode cX8_pack 11 = .ok (.aload_n 1, 1) := dk_43 (dk_at dksX8_pack_0 11 rfl rfl)
theorem dX8_pack_12 : decode cX8_pack 12 = .ok (.iload_n 3, 1) := dk_29 (dk_at dksX8_pack_0 12 rfl rfl)
theorem dX8_pack_13 : decode cX8_pack 13 = .ok (.iload 4, 2) := dk_21 4 (dk_at dksX8_pack_0 13 rfl rfl)
theorem dX8_pack_15 : decode cX8_pack 15 = .ok (.iadd, 1) := dk_96 (dk_at dksX8_pack_0 15 rfl rfl)
theorem dX8_pack_16 : decode cX8_pack 16 = .ok (.aload_n 0, 1) := dk_42 (dk_at dksX8_pack_0 16 rfl rfl)
theorem dX8_pack_17 : decode cX8_pack 17 = .ok (.getfield 44, 3) := dk_180 0 44 (dk_at dksX8_pack_0 17 rfl rfl)
theorem dX8_pack_20 : decode cX8_pack 20 = .ok (.iload 4, 2) := dk_21 4 (dk_at dksX8_pack_0 20 rfl rfl)
theorem dX8_pack_22 : decode cX8_pack 22 = .ok (.iaload, 1) := dk_46 (dk_at dksX8_pack_0 22 rfl rfl)
theorem dX8_pack_23 : decode cX8_pack 23 = .ok (.iastore, 1) := dk_79 (dk_at dksX8_pack_0 23 rfl rfl)
theorem dX8_pack_24 : decode cX8_pack 24 = .ok (.iinc 4 1, 3) := dk_132 4 1 (dk_at dksX8_pack_1 0 rfl rfl)
theorem dX8_pack_27 : decode cX8_pack 27 = .ok (.goto (-22), 3) := dk_167 255 234 (dk_at dksX8_pack_1 3 rfl rfl)
theorem dX8_pack_30 : decode cX8_pack 30 = .ok (.iinc 3 5, 3) := dk_132 3 5 (dk_at dksX8_pack_1 6 rfl rfl)
theorem dX8_pack_33 : decode cX8_pack 33 = .ok (.aload_n 1, 1) := dk_43 (dk_at dksX8_pack_1 9 rfl rfl)
theorem dX8_pack_34 : decode cX8_pack 34 = .ok (.iload_n 3, 1) := dk_29 (dk_at dksX8_pack_1 10 rfl rfl)
theorem dX8_pack_35 : decode cX8_pack 35 = .ok (.aload_n 0, 1) := dk_42 (dk_at dksX8_pack_1 11 rfl rfl)
theorem dX8_pack_36 : decode cX8_pack 36 = .ok (.getfield 311, 3) := dk_180 1 55 (dk_at dksX8_pack_1 12 rfl rfl)
theorem dX8_pack_39 : decode cX8_pack 39 = .ok (.iastore, 1) := dk_79 (dk_at dksX8_pack_1 15 rfl rfl)
theorem dX8_pack_40 : decode cX8_pack 40 = .ok (.aload_n 1, 1) := dk_43 (dk_at dksX8_pack_1 16 rfl rfl)
theorem dX8_pack_41 : decode cX8_pack 41 = .ok (.iload_n 3, 1) := dk_29 (dk_at dksX8_pack_1 17 rfl rfl)
theorem dX8_pack_42 : decode cX8_pack 42 = .ok (.iconst 1, 1) := dk_4 (dk_at dksX8_pack_1 18 rfl rfl)
theorem dX8_pack_43 : decode cX8_pack 43 = .ok (.iadd, 1) := dk_96 (dk_at dksX8_pack_1 19 rfl rfl)
theorem dX8_pack_44 : decode cX8_pack 44 = .ok (.aload_n 0, 1) := dk_42 (dk_at dksX8_pack_1 20 rfl rfl)
theorem dX8_pack_45 : decode cX8_pack 45 = .ok (.getfield 314, 3) := dk_180 1 58 (dk_at dksX8_pack_1 21 rfl rfl)
theorem dX8_pack_48 : decode cX8_pack 48 = .ok (.iastore, 1) := dk_79 (dk_at dksX8_pack_2 0 rfl rfl)
theorem dX8_pack_49 : decode cX8_pack 49 = .ok (.aload_n 1, 1) := dk_43 (dk_at dksX8_pack_2 1 rfl rfl)
theorem dX8_pack_50 : decode cX8_pack 50 = .ok (.iload_n 3, 1) := dk_29 (dk_at dksX8_pack_2 2 rfl rfl)
theorem dX8_pack_51 : decode cX8_pack 51 = .ok (.iconst 2, 1) := dk_5 (dk_at dksX8_pack_2 3 rfl rfl)
theorem dX8_pack_52 : decode cX8_pack 52 = .ok (.iadd, 1) := dk_96 (dk_at dksX8_pack_2 4 rfl rfl)
theorem dX8_pack_53 : decode cX8_pack 53 = .ok (.aload_n 0, 1) := dk_42 (dk_at dksX8_pack_2 5 rfl rfl)
theorem dX8_pack_54 : decode cX8_pack 54 = .ok (.getfield 317, 3) := dk_180 1 61 (dk_at dksX8_pack_2 6 rfl rfl)
theorem dX8_pack_57 : decode cX8_pack 57 = .ok (.iastore, 1) := dk_79 (dk_at dksX8_pack_2 9 rfl rfl)
theorem dX8_pack_58 : decode cX8_pack 58 = .ok (.aload_n 1, 1) := dk_43 (dk_at dksX8_pack_2 10 rfl rfl)
theorem dX8_pack_59 : decode cX8_pack 59 = .ok (.iload_n 3, 1) := dk_29 (dk_at dksX8_pack_2 11 rfl rfl)
theorem dX8_pack_60 : decode cX8_pack 60 = .ok (.iconst 3, 1) := dk_6 (dk_at dksX8_pack_2 12 rfl rfl)
theorem dX8_pack_61 : decode cX8_pack 61 = .ok (.iadd, 1) := dk_96 (dk_at dksX8_pack_2 13 rfl rfl)
theorem dX8_pack_62 : decode cX8_pack 62 = .ok (.aload_n 0, 1) := dk_42 (dk_at dksX8_pack_2 14 rfl rfl)
theorem dX8_pack_63 : decode cX8_pack 63 = .ok (.getfield 320, 3) := dk_180 1 64 (dk_at dksX8_pack_2 15 rfl rfl)
theorem dX8_pack_66 : decode cX8_pack 66 = .ok (.iastore, 1) := dk_79 (dk_at dksX8_pack_2 18 rfl rfl)
theorem dX8_pack_67 : decode cX8_pack 67 = .ok (.iinc 3 4, 3) := dk_132 3 4 (dk_at dksX8_pack_2 19 rfl rfl)
theorem dX8_pack_70 : decode cX8_pack 70 = .ok (.iconst 0, 1) := dk_3 (dk_at dksX8_pack_2 22 rfl rfl)
theorem dX8_pack_71 : decode cX8_pack 71 = .ok (.istore 4, 2) := dk_54 4 (dk_at dksX8_pack_3 0 rfl rfl)
theorem dX8_pack_73 : decode cX8_pack 73 = .ok (.iload 4, 2) := dk_21 4 (dk_at dksX8_pack_3 2 rfl rfl)
theorem dX8_pack_75 : decode cX8_pack 75 = .ok (.bipush 12, 2) := dk_16 12 (dk_at dksX8_pack_3 4 rfl rfl)
theorem dX8_pack_77 : decode cX8_pack 77 = .ok (.if_icmp .ge 54, 3) := dk_162 0 54 (dk_at dksX8_pack_3 6 rfl rfl)
theorem dX8_pack_80 : decode cX8_pack 80 = .ok (.aload_n 1, 1) := dk_43 (dk_at dksX8_pack_3 9 rfl rfl)
theorem dX8_pack_81 : decode cX8_pack 81 = .ok (.iload_n 3, 1) := dk_29 (dk_at dksX8_pack_3 10 rfl rfl)
theorem dX8_pack_82 : decode cX8_pack 82 = .ok (.iload 4, 2) := dk_21 4 (dk_at dksX8_pack_3 11 rfl rfl)
theorem dX8_pack_84 : decode cX8_pack 84 = .ok (.iadd, 1) := dk_96 (dk_at dksX8_pack_3 13 rfl rfl)
theorem dX8_pack_85 : decode cX8_pack 85 = .ok (.aload_n 0, 1) := dk_42 (dk_at dksX8_pack_3 14 rfl rfl)
theorem dX8_pack_86 : decode cX8_pack 86 = .ok (.getfield 73, 3) := dk_180 0 73 (dk_at dksX8_pack_3 15 rfl rfl)
theorem dX8_pack_89 : decode cX8_pack 89 = .ok (.iload 4, 2) := dk_21 4 (dk_at dksX8_pack_3 18 rfl rfl)
theorem dX8_pack_91 : decode cX8_pack 91 = .ok (.iaload, 1) := dk_46 (dk_at dksX8_pack_3 20 rfl rfl)
theorem dX8_pack_92 : decode cX8_pack 92 = .ok (.iastore, 1) := dk_79 (dk_at dksX8_pack_3 21 rfl rfl)
theorem dX8_pack_93 : decode cX8_pack 93 = .ok (.aload_n 1, 1) := dk_43 (dk_at dksX8_pack_3 22 rfl rfl)
theorem dX8_pack_94 : decode cX8_pack 94 = .ok (.iload_n 3, 1) := dk_29 (dk_at dksX8_pack_3 23 rfl rfl)
theorem dX8_pack_95 : decode cX8_pack 95 = .ok (.bipush 12, 2) := dk_16 12 (dk_at dksX8_pack_4 0 rfl rfl)
theorem dX8_pack_97 : decode cX8_pack 97 = .ok (.iadd, 1) := dk_96 (dk_at dksX8_pack_4 2 rfl rfl)
theorem dX8_pack_98 : decode cX8_pack 98 = .ok (.iload 4, 2) := dk_21 4 (dk_at dksX8_pack_4 3 rfl rfl)
theorem dX8_pack_100 : decode cX8_pack 100 = .ok (.iadd, 1) := dk_96 (dk_at dksX8_pack_4 5 rfl rfl)
theorem dX8_pack_101 : decode cX8_pack 101 = .ok (.aload_n 0, 1) := dk_42 (dk_at dksX8_pack_4 6 rfl rfl)
theorem dX8_pack_102 : decode cX8_pack 102 = .ok (.getfield 76, 3) := dk_180 0 76 (dk_at dksX8_pack_4 7 rfl rfl)
theorem dX8_pack_105 : decode cX8_pack 105 = .ok (.iload 4, 2) := dk_21 4 (dk_at dksX8_pack_4 10 rfl rfl)
theorem dX8_pack_107 : decode cX8_pack 107 = .ok (.iaload, 1) := dk_46 (dk_at dksX8_pack_4 12 rfl rfl)
theorem dX8_pack_108 : decode cX8_pack 108 = .ok (.iastore, 1) := dk_79 (dk_at dksX8_pack_4 13 rfl rfl)
theorem dX8_pack_109 : decode cX8_pack 109 = .ok (.aload_n 1, 1) := dk_43 (dk_at dksX8_pack_4 14 rfl rfl)
theorem dX8_pack_110 : decode cX8_pack 110 = .ok (.iload_n 3, 1) := dk_29 (dk_at dksX8_pack_4 15 rfl rfl)
theorem dX8_pack_111 : decode cX8_pack 111 = .ok (.bipush 24, 2) := dk_16 24 (dk_at dksX8_pack_4 16 rfl rfl)
theorem dX8_pack_113 : decode cX8_pack 113 = .ok (.iadd, 1) := dk_96 (dk_at dksX8_pack_4 18 rfl rfl)
theorem dX8_pack_114 : decode cX8_pack 114 = .ok (.iload 4, 2) := dk_21 4 (dk_at dksX8_pack_4 19 rfl rfl)
theorem dX8_pack_116 : decode cX8_pack 116 = .ok (.iadd, 1) := dk_96 (dk_at dksX8_pack_4 21 rfl rfl)
theorem dX8_pack_117 : decode cX8_pack 117 = .ok (.aload_n 0, 1) := dk_42 (dk_at dksX8_pack_4 22 rfl rfl)
theorem dX8_pack_118 : decode cX8_pack 118 = .ok (.getfield 79, 3) := dk_180 0 79 (dk_at dksX8_pack_5 0 rfl rfl)
theorem dX8_pack_121 : decode cX8_pack 121 = .ok (.iload 4, 2) := dk_21 4 (dk_at dksX8_pack_5 3 rfl rfl)
theorem dX8_pack_123 : decode cX8_pack 123 = .ok (.iaload, 1) := dk_46 (dk_at dksX8_pack_5 5 rfl rfl)
theorem dX8_pack_124 : decode cX8_pack 124 = .ok (.iastore, 1) := dk_79 (dk_at dksX8_pack_5 6 rfl rfl)
theorem dX8_pack_125 : decode cX8_pack 125 = .ok (.iinc 4 1, 3) := dk_132 4 1 (dk_at dksX8_pack_5 7 rfl rfl)
theorem dX8_pack_128 : decode cX8_pack 128 = .ok (.goto (-55), 3) := dk_167 255 201 (dk_at dksX8_pack_5 10 rfl rfl)
theorem dX8_pack_131 : decode cX8_pack 131 = .ok (.return_, 1) := dk_177 (dk_at dksX8_pack_5 13 rfl rfl)
abbrev cX8_inn : ByteArray := prog_20_method_79_code
def yX8_inn : MethodName := ⟨RX8, "inn", "(IZ)Z"⟩
def dkwX8_inn_2 : List UInt8 := [96, 79, 3, 172, 42, 182, 1, 182, 42, 89, 180, 1, 55, 4, 27, 120, 130, 181, 1, 55, 4, 172]
abbrev dktX8_inn_2 : List UInt8 := dkwX8_inn_2 ++ []
def dkwX8_inn_1 : List UInt8 := [27, 122, 4, 126, 28, 153, 0, 7, 4, 167, 0, 4, 3, 160, 0, 15, 42, 180, 0, 60, 4, 92, 46, 4]
abbrev dktX8_inn_1 : List UInt8 := dkwX8_inn_1 ++ dktX8_inn_2
def dkwX8_inn_0 : List UInt8 := [42, 3, 181, 0, 150, 42, 27, 182, 1, 157, 154, 0, 10, 42, 4, 181, 0, 150, 3, 172, 42, 180, 1, 55]
abbrev dktX8_inn_0 : List UInt8 := dkwX8_inn_0 ++ dktX8_inn_1
theorem dksX8_inn_0 : cX8_inn.data.toList.drop 0 = dktX8_inn_0 := by decide +kernel
theorem dksX8_inn_1 : cX8_inn.data.toList.drop 24 = dktX8_inn_1 := dk_seg dksX8_inn_0 24 rfl rfl
theorem dksX8_inn_2 : cX8_inn.data.toList.drop 48 = dktX8_inn_2 := dk_seg dksX8_inn_1 24 rfl rfl
theorem dX8_inn_0 : decode cX8_inn 0 = .ok (.aload_n 0, 1) := dk_42 (dk_at dksX8_inn_0 0 rfl rfl)
theorem dX8_inn_1 : decode cX8_inn 1 = .ok (.iconst 0, 1) := dk_3 (dk_at dksX8_inn_0 1 rfl rfl)
theorem dX8_inn_2 : decode cX8_inn 2 = .ok (.putfield 150, 3) := dk_181 0 150 (dk_at dksX8_inn_0 2 rfl rfl)
theorem dX8_inn_5 : decode cX8_inn 5 = .ok (.aload_n 0, 1) := dk_42 (dk_at dksX8_inn_0 5 rfl rfl)
theorem dX8_inn_6 : decode cX8_inn 6 = .ok (.iload_n 1, 1) := dk_27 (dk_at dksX8_inn_0 6 rfl rfl)
theorem dX8_inn_7 : decode cX8_inn 7 = .ok (.invokevirtual 413, 3) := dk_182 1 157 (dk_at dksX8_inn_0 7 rfl rfl)
theorem dX8_inn_10 : decode cX8_inn 10 = .ok (.ifCond .ne 10, 3) := dk_154 0 10 (dk_at dksX8_inn_0 10 rfl rfl)
theorem dX8_inn_13 : decode cX8_inn 13 = .ok (.aload_n 0, 1) := dk_42 (dk_at dksX8_inn_0 13 rfl rfl)
theorem dX8_inn_14 : decode cX8_inn 14 = .ok (.iconst 1, 1) := dk_4 (dk_at dksX8_inn_0 14 rfl rfl)
theorem dX8_inn_15 : decode cX8_inn 15 = .ok (.putfield 150, 3) := dk_181 0 150 (dk_at dksX8_inn_0 15 rfl rfl)
theorem dX8_inn_18 : decode cX8_inn 18 = .ok (.iconst 0, 1) := dk_3 (dk_at dksX8_inn_0 18 rfl rfl)
theorem dX8_inn_19 : decode cX8_inn 19 = .ok (.ireturn, 1) := dk_172 (dk_at dksX8_inn_0 19 rfl rfl)
theorem dX8_inn_20 : decode cX8_inn 20 = .ok (.aload_n 0, 1) := dk_42 (dk_at dksX8_inn_0 20 rfl rfl)
theorem dX8_inn_21 : decode cX8_inn 21 = .ok (.getfield 311, 3) := dk_180 1 55 (dk_at dksX8_inn_0 21 rfl rfl)
theorem dX8_inn_24 : decode cX8_inn 24 = .ok (.iload_n 1, 1) := dk_27 (dk_at dksX8_inn_1 0 rfl rfl)
theorem dX8_inn_25 : decode cX8_inn 25 = .ok (.ishr, 1) := dk_122 (dk_at dksX8_inn_1 1 rfl rfl)
theorem dX8_inn_26 : decode cX8_inn 26 = .ok (.iconst 1, 1) := dk_4 (dk_at dksX8_inn_1 2 rfl rfl)
theorem dX8_inn_27 : decode cX8_inn 27 = .ok (.iand, 1) := dk_126 (dk_at dksX8_inn_1 3 rfl rfl)
theorem dX8_inn_28 : decode cX8_inn 28 = .ok (.iload_n 2, 1) := dk_28 (dk_at dksX8_inn_1 4 rfl rfl)
theorem dX8_inn_29 : decode cX8_inn 29 = .ok (.ifCond .eq 7, 3) := dk_153 0 7 (dk_at dksX8_inn_1 5 rfl rfl)
theorem dX8_inn_32 : decode cX8_inn 32 = .ok (.iconst 1, 1) := dk_4 (dk_at dksX8_inn_1 8 rfl rfl)
theorem dX8_inn_33 : decode cX8_inn 33 = .ok (.goto 4, 3) := dk_167 0 4 (dk_at dksX8_inn_1 9 rfl rfl)
theorem dX8_inn_36 : decode cX8_inn 36 = .ok (.iconst 0, 1) := dk_3 (dk_at dksX8_inn_1 12 rfl rfl)
theorem dX8_inn_37 : decode cX8_inn 37 = .ok (.if_icmp .ne 15, 3) := dk_160 0 15 (dk_at dksX8_inn_1 13 rfl rfl)
theorem dX8_inn_40 : decode cX8_inn 40 = .ok (.aload_n 0, 1) := dk_42 (dk_at dksX8_inn_1 16 rfl rfl)
theorem dX8_inn_41 : decode cX8_inn 41 = .ok (.getfield 60, 3) := dk_180 0 60 (dk_at dksX8_inn_1 17 rfl rfl)
theorem dX8_inn_44 : decode cX8_inn 44 = .ok (.iconst 1, 1) := dk_4 (dk_at dksX8_inn_1 20 rfl rfl)
theorem dX8_inn_45 : decode cX8_inn 45 = .ok (.dup2, 1) := dk_92 (dk_at dksX8_inn_1 21 rfl rfl)
theorem dX8_inn_46 : decode cX8_inn 46 = .ok (.iaload, 1) := dk_46 (dk_at dksX8_inn_1 22 rfl rfl)
theorem dX8_inn_47 : decode cX8_inn 47 = .ok (.iconst 1, 1) := dk_4 (dk_at dksX8_inn_1 23 rfl rfl)
theorem dX8_inn_48 : decode cX8_inn 48 = .ok (.iadd, 1) := dk_96 (dk_at dksX8_inn_2 0 rfl rfl)
theorem dX8_inn_49 : decode cX8_inn 49 = .ok (.iastore, 1) := dk_79 (dk_at dksX8_inn_2 1 rfl rfl)
theorem dX8_inn_50 : decode cX8_inn 50 = .ok (.iconst 0, 1) := dk_3 (dk_at dksX8_inn_2 2 rfl rfl)
theorem dX8_inn_51 : decode cX8_inn 51 = .ok (.ireturn, 1) := dk_172 (dk_at dksX8_inn_2 3 rfl rfl)
theorem dX8_inn_52 : decode cX8_inn 52 = .ok (.aload_n 0, 1) := dk_42 (dk_at dksX8_inn_2 4 rfl rfl)
theorem dX8_inn_53 : decode cX8_inn 53 = .ok (.invokevirtual 438, 3) := dk_182 1 182 (dk_at dksX8_inn_2 5 rfl rfl)
theorem dX8_inn_56 : decode cX8_inn 56 = .ok (.aload_n 0, 1) := dk_42 (dk_at dksX8_inn_2 8 rfl rfl)
theorem dX8_inn_57 : decode cX8_inn 57 = .ok (.dup, 1) := dk_89 (dk_at dksX8_inn_2 9 rfl rfl)
theorem dX8_inn_58 : decode cX8_inn 58 = .ok (.getfield 311, 3) := dk_180 1 55 (dk_at dksX8_inn_2 10 rfl rfl)
theorem dX8_inn_61 : decode cX8_inn 61 = .ok (.iconst 1, 1) := dk_4 (dk_at dksX8_inn_2 13 rfl rfl)
theorem dX8_inn_62 : decode cX8_inn 62 = .ok (.iload_n 1, 1) := dk_27 (dk_at dksX8_inn_2 14 rfl rfl)
theorem dX8_inn_63 : decode cX8_inn 63 = .ok (.ishl, 1) := dk_120 (dk_at dksX8_inn_2 15 rfl rfl)
theorem dX8_inn_64 : decode cX8_inn 64 = .ok (.ixor, 1) := dk_130 (dk_at dksX8_inn_2 16 rfl rfl)
theorem dX8_inn_65 : decode cX8_inn 65 = .ok (.putfield 311, 3) := dk_181 1 55 (dk_at dksX8_inn_2 17 rfl rfl)
theorem dX8_inn_68 : decode cX8_inn 68 = .ok (.iconst 1, 1) := dk_4 (dk_at dksX8_inn_2 20 rfl rfl)
theorem dX8_inn_69 : decode cX8_inn 69 = .ok (.ireturn, 1) := dk_172 (dk_at dksX8_inn_2 21 rfl rfl)
abbrev cX8_word : ByteArray := prog_20_method_81_code
def yX8_word : MethodName := ⟨RX8, "word", "(III)I"⟩
def dkwX8_word_3 : List UInt8 := [42, 89, 180, 1, 58, 4, 96, 181, 1, 58, 42, 180, 1, 58, 172]
abbrev dktX8_word_3 : List UInt8 := dkwX8_word_3 ++ []
def dkwX8_word_2 : List UInt8 := [42, 4, 182, 1, 179, 172, 42, 182, 1, 182, 42, 180, 0, 73, 42, 180, 1, 58, 27, 28, 29, 184, 1, 187]
abbrev dktX8_word_2 : List UInt8 := dkwX8_word_2 ++ dktX8_word_3
def dkwX8_word_1 : List UInt8 := [182, 1, 42, 172, 42, 180, 1, 58, 7, 159, 0, 15, 29, 133, 9, 20, 1, 185, 184, 0, 153, 154, 0, 9]
abbrev dktX8_word_1 : List UInt8 := dkwX8_word_1 ++ dktX8_word_2
def dkwX8_word_0 : List UInt8 := [42, 3, 181, 0, 150, 42, 27, 182, 1, 168, 153, 0, 11, 42, 28, 182, 1, 157, 154, 0, 9, 42, 4]
abbrev dktX8_word_0 : List UInt8 := dkwX8_word_0 ++ dktX8_word_1
theorem dksX8_word_0 : cX8_word.data.toList.drop 0 = dktX8_word_0 := by decide +kernel
theorem dksX8_word_1 : cX8_word.data.toList.drop 23 = dktX8_word_1 := dk_seg dksX8_word_0 23 rfl rfl
theorem dksX8_word_2 : cX8_word.data.toList.drop 47 = dktX8_word_2 := dk_seg dksX8_word_1 24 rfl rfl
theorem dksX8_word_3 : cX8_word.data.toList.drop 71 = dktX8_word_3 := dk_seg dksX8_word_2 24 rfl rfl
theorem dX8_word_0 : decode cX8_word 0 = .ok (.aload_n 0, 1) := dk_42 (dk_at dksX8_word_0 0 rfl rfl)
theorem dX8_word_1 : decode cX8_word 1 = .ok (.iconst 0, 1) := dk_3 (dk_at dksX8_word_0 1 rfl rfl)
theorem dX8_word_2 : decode cX8_word 2 = .ok (.putfield 150, 3) := dk_181 0 150 (dk_at dksX8_word_0 2 rfl rfl)
theorem dX8_word_5 : decode cX8_word 5 = .ok (.aload_n 0, 1) := dk_42 (dk_at dksX8_word_0 5 rfl rfl)
theorem dX8_word_6 : decode cX8_word 6 = .ok (.iload_n 1, 1) := dk_27 (dk_at dksX8_word_0 6 rfl rfl)
theorem dX8_word_7 : decode cX8_word 7 = .ok (.invokevirtual 424, 3) := dk_182 1 168 (dk_at dksX8_word_0 7 rfl rfl)
theorem dX8_word_10 : decode cX8_word 10 = .ok (.ifCond .eq 11, 3) := dk_153 0 11 (dk_at dksX8_word_0 10 rfl rfl)
theorem dX8_word_13 : decode cX8_word 13 = .ok (.aload_n 0, 1) := dk_42 (dk_at dksX8_word_0 13 rfl rfl)
theorem dX8_word_14 : decode cX8_word 14 = .ok (.iload_n 2, 1) := dk_28 (dk_at dksX8_word_0 14 rfl rfl)
theorem dX8_word_15 : decode cX8_word 15 = .ok (.invokevirtual 413, 3) := dk_182 1 157 (dk_at dksX8_word_0 15 rfl rfl)
theorem dX8_word_18 : decode cX8_word 18 = .ok (.ifCond .ne 9, 3) := dk_154 0 9 (dk_at dksX8_word_0 18 rfl rfl)
theorem dX8_word_21 : decode cX8_word 21 = .ok (.aload_n 0, 1) := dk_42 (dk_at dksX8_word_0 21 rfl rfl)
theorem dX8_word_22 : decode cX8_word 22 = .ok (.iconst 1, 1) := dk_4 (dk_at dksX8_word_0 22 rfl rfl)
theorem dX8_word_23 : decode cX8_word 23 = .ok (.invokevirtual 298, 3) := dk_182 1 42 (dk_at dksX8_word_1 0 rfl rfl)
theorem dX8_word_26 : decode cX8_word 26 = .ok (.ireturn, 1) := dk_172 (dk_at dksX8_word_1 3 rfl rfl)
theorem dX8_word_27 : decode cX8_word 27 = .ok (.aload_n 0, 1) := dk_42 (dk_at dksX8_word_1 4 rfl rfl)
theorem dX8_word_28 : decode cX8_word 28 = .ok (.getfield 314, 3) := dk_180 1 58 (dk_at dksX8_word_1 5 rfl rfl)
theorem dX8_word_31 : decode cX8_word 31 = .ok (.iconst 4, 1) := dk_7 (dk_at dksX8_word_1 8 rfl rfl)
theorem dX8_word_32 : decode cX8_word 32 = .ok (.if_icmp .eq 15, 3) := dk_159 0 15 (dk_at dksX8_word_1 9 rfl rfl)
theorem dX8_word_35 : decode cX8_word 35 = .ok (.iload_n 3, 1) := dk_29 (dk_at dksX8_word_1 12 rfl rfl)
theorem dX8_word_36 : decode cX8_word 36 = .ok (.i2l, 1) := dk_133 (dk_at dksX8_word_1 13 rfl rfl)
theorem dX8_word_37 : decode cX8_word 37 = .ok (.lconst 0, 1) := dk_9 (dk_at dksX8_word_1 14 rfl rfl)
theorem dX8_word_38 : decode cX8_word 38 = .ok (.ldc2_w 441, 3) := dk_20 1 185 (dk_at dksX8_word_1 15 rfl rfl)
theorem dX8_word_41 : decode cX8_word 41 = .ok (.invokestatic 153, 3) := dk_184 0 153 (dk_at dksX8_word_1 18 rfl rfl)
theorem dX8_word_44 : decode cX8_word 44 = .ok (.ifCond .ne 9, 3) := dk_154 0 9 (dk_at dksX8_word_1 21 rfl rfl)
theorem dX8_word_47 : decode cX8_word 47 = .ok (.aload_n 0, 1) := dk_42 (dk_at dksX8_word_2 0 rfl rfl)
theorem dX8_word_48 : decode cX8_word 48 = .ok (.iconst 1, 1) := dk_4 (dk_at dksX8_word_2 1 rfl rfl)
theorem dX8_word_49 : decode cX8_word 49 = .ok (.invokevirtual 435, 3) := dk_182 1 179 (dk_at dksX8_word_2 2 rfl rfl)
theorem dX8_word_52 : decode cX8_word 52 = .ok (.ireturn, 1) := dk_172 (dk_at dksX8_word_2 5 rfl rfl)
theorem dX8_word_53 : decode cX8_word 53 = .ok (.aload_n 0, 1) := dk_42 (dk_at dksX8_word_2 6 rfl rfl)
theorem dX8_word_54 : decode cX8_word 54 = .ok (.invokevirtual 438, 3) := dk_182 1 182 (dk_at dksX8_word_2 7 rfl rfl)
theorem dX8_word_57 : decode cX8_word 57 = .ok (.aload_n 0, 1) := dk_42 (dk_at dksX8_word_2 10 rfl rfl)
theorem dX8_word_58 : decode cX8_word 58 = .ok (.getfield 73, 3) := dk_180 0 73 (dk_at dksX8_word_2 11 rfl rfl)
theorem dX8_word_61 : decode cX8_word 61 = .ok (.aload_n 0, 1) := dk_42 (dk_at dksX8_word_2 14 rfl rfl)
theorem dX8_word_62 : decode cX8_word 62 = .ok (.getfield 314, 3) := dk_180 1 58 (dk_at dksX8_word_2 15 rfl rfl)
theorem dX8_word_65 : decode cX8_word 65 = .ok (.iload_n 1, 1) := dk_27 (dk_at dksX8_word_2 18 rfl rfl)
theorem dX8_word_66 : decode cX8_word 66 = .ok (.iload_n 2, 1) := dk_28 (dk_at dksX8_word_2 19 rfl rfl)
theorem dX8_word_67 : decode cX8_word 67 = .ok (.iload_n 3, 1) := dk_29 (dk_at dksX8_word_2 20 rfl rfl)
theorem dX8_word_68 : decode cX8_word 68 = .ok (.invokestatic 443, 3) := dk_184 1 187 (dk_at dksX8_word_2 21 rfl rfl)
theorem dX8_word_71 : decode cX8_word 71 = .ok (.aload_n 0, 1) := dk_42 (dk_at dksX8_word_3 0 rfl rfl)
theorem dX8_word_72 : decode cX8_word 72 = .ok (.dup, 1) := dk_89 (dk_at dksX8_word_3 1 rfl rfl)
theorem dX8_word_73 : decode cX8_word 73 = .ok (.getfield 314, 3) := dk_180 1 58 (dk_at dksX8_word_3 2 rfl rfl)
theorem dX8_word_76 : decode cX8_word 76 = .ok (.iconst 1, 1) := dk_4 (dk_at dksX8_word_3 5 rfl rfl)
theorem dX8_word_77 : decode cX8_word 77 = .ok (.iadd, 1) := dk_96 (dk_at dksX8_word_3 6 rfl rfl)
theorem dX8_word_78 : decode cX8_word 78 = .ok (.putfield 314, 3) := dk_181 1 58 (dk_at dksX8_word_3 7 rfl rfl)
theorem dX8_word_81 : decode cX8_word 81 = .ok (.aload_n 0, 1) := dk_42 (dk_at dksX8_word_3 10 rfl rfl)
theorem dX8_word_82 : decode cX8_word 82 = .ok (.getfield 314, 3) := dk_180 1 58 (dk_at dksX8_word_3 11 rfl rfl)
theorem dX8_word_85 : decode cX8_word 85 = .ok (.ireturn, 1) := dk_172 (dk_at dksX8_word_3 14 rfl rfl)
abbrev cX8_putRow : ByteArray := prog_20_method_80_code
def yX8_putRow : MethodName := ⟨RX8, "putRow", "([IIIII)V"⟩
def dkwX8_putRow_0 : List UInt8 := [42, 6, 27, 104, 28, 79, 42, 6, 27, 104, 4, 96, 29, 79, 42, 6, 27, 104, 5, 96, 21, 4, 79, 177]
abbrev dktX8_putRow_0 : List UInt8 := dkwX8_putRow_0 ++ []
theorem dksX8_putRow_0 : cX8_putRow.data.toList.drop 0 = dktX8_putRow_0 := by decide +kernel
theorem dX8_putRow_0 : decode cX8_putRow 0 = .ok (.aload_n 0, 1) := dk_42 (dk_at dksX8_putRow_0 0 rfl rfl)
theorem dX8_putRow_1 : decode cX8_putRow 1 = .ok (.iconst 3, 1) := dk_6 (dk_at dksX8_putRow_0 1 rfl rfl)
theorem dX8_putRow_2 : decode cX8_putRow 2 = .ok (.iload_n 1, 1) := dk_27 (dk_at dksX8_putRow_0 2 rfl rfl)
theorem dX8_putRow_3 : decode cX8_putRow 3 = .ok (.imul, 1) := dk_104 (dk_at dksX8_putRow_0 3 rfl rfl)
theorem dX8_putRow_4 : decode cX8_putRow 4 = .ok (.iload_n 2, 1) := dk_28 (dk_at dksX8_putRow_0 4 rfl rfl)
theorem dX8_putRow_5 : decode cX8_putRow 5 = .ok (.iastore, 1) := dk_79 (dk_at dksX8_putRow_0 5 rfl rfl)
theorem dX8_putRow_6 : decode cX8_putRow 6 = .ok (.aload_n 0, 1) := dk_42 (dk_at dksX8_putRow_0 6 rfl rfl)
theorem dX8_putRow_7 : decode cX8_putRow 7 = .ok (.iconst 3, 1) := dk_6 (dk_at dksX8_putRow_0 7 rfl rfl)
theorem dX8_putRow_8 : decode cX8_putRow 8 = .ok (.iload_n 1, 1) := dk_27 (dk_at dksX8_putRow_0 8 rfl rfl)
theorem dX8_putRow_9 : decode cX8_putRow 9 = .ok (.imul, 1) := dk_104 (dk_at dksX8_putRow_0 9 rfl rfl)
theorem dX8_putRow_10 : decode cX8_putRow 10 = .ok (.iconst 1, 1) := dk_4 (dk_at dksX8_putRow_0 10 rfl rfl)
theorem dX8_putRow_11 : decode cX8_putRow 11 = .ok (.iadd, 1) := dk_96 (dk_at dksX8_putRow_0 11 rfl rfl)
theorem dX8_putRow_12 : decode cX8_putRow 12 = .ok (.iload_n 3, 1) := dk_29 (dk_at dksX8_putRow_0 12 rfl rfl)
theorem dX8_putRow_13 : decode cX8_putRow 13 = .ok (.iastore, 1) := dk_79 (dk_at dksX8_putRow_0 13 rfl rfl)
theorem dX8_putRow_14 : decode cX8_putRow 14 = .ok (.aload_n 0, 1) := dk_42 (dk_at dksX8_putRow_0 14 rfl rfl)
theorem dX8_putRow_15 : decode cX8_putRow 15 = .ok (.iconst 3, 1) := dk_6 (dk_at dksX8_putRow_0 15 rfl rfl)
theorem dX8_putRow_16 : decode cX8_putRow 16 = .ok (.iload_n 1, 1) := dk_27 (dk_at dksX8_putRow_0 16 rfl rfl)
theorem dX8_putRow_17 : decode cX8_putRow 17 = .ok (.imul, 1) := dk_104 (dk_at dksX8_putRow_0 17 rfl rfl)
theorem dX8_putRow_18 : decode cX8_putRow 18 = .ok (.iconst 2, 1) := dk_5 (dk_at dksX8_putRow_0 18 rfl rfl)
theorem dX8_putRow_19 : decode cX8_putRow 19 = .ok (.iadd, 1) := dk_96 (dk_at dksX8_putRow_0 19 rfl rfl)
theorem dX8_putRow_20 : decode cX8_putRow 20 = .ok (.iload 4, 2) := dk_21 4 (dk_at dksX8_putRow_0 20 rfl rfl)
theorem dX8_putRow_22 : decode cX8_putRow 22 = .ok (.iastore, 1) := dk_79 (dk_at dksX8_putRow_0 22 rfl rfl)
theorem dX8_putRow_23 : decode cX8_putRow 23 = .ok (.return_, 1) := dk_177 (dk_at dksX8_putRow_0 23 rfl rfl)
abbrev cX8_feast : ByteArray := prog_20_method_82_code
def yX8_feast : MethodName := ⟨RX8, "feast", "(III)I"⟩
def dkwX8_feast_3 : List UInt8 := [27, 28, 29, 184, 1, 187, 42, 89, 180, 1, 61, 4, 96, 181, 1, 61, 42, 180, 1, 61, 172]
abbrev dktX8_feast_3 : List UInt8 := dkwX8_feast_3 ++ []
def dkwX8_feast_2 : List UInt8 := [184, 0, 153, 154, 0, 9, 42, 4, 182, 1, 179, 172, 42, 182, 1, 182, 42, 180, 0, 76, 42, 180, 1, 61]
abbrev dktX8_feast_2 : List UInt8 := dkwX8_feast_2 ++ dktX8_feast_3
def dkwX8_feast_1 : List UInt8 := [159, 0, 28, 28, 133, 9, 20, 1, 185, 184, 0, 153, 153, 0, 16, 29, 133, 28, 133, 20, 1, 185]
abbrev dktX8_feast_1 : List UInt8 := dkwX8_feast_1 ++ dktX8_feast_2
def dkwX8_feast_0 : List UInt8 := [42, 3, 181, 0, 150, 42, 27, 182, 1, 157, 154, 0, 9, 42, 4, 182, 1, 42, 172, 42, 180, 1, 61, 7]
abbrev dktX8_feast_0 : List UInt8 := dkwX8_feast_0 ++ dktX8_feast_1
theorem dksX8_feast_0 : cX8_feast.data.toList.drop 0 = dktX8_feast_0 := by decide +kernel
theorem dksX8_feast_1 : cX8_feast.data.toList.drop 24 = dktX8_feast_1 := dk_seg dksX8_feast_0 24 rfl rfl
theorem dksX8_feast_2 : cX8_feast.data.toList.drop 46 = dktX8_feast_2 := dk_seg dksX8_feast_1 22 rfl rfl
theorem dksX8_feast_3 : cX8_feast.data.toList.drop 70 = dktX8_feast_3 := dk_seg dksX8_feast_2 24 rfl rfl
theorem dX8_feast_0 : decode cX8_feast 0 = .ok (.aload_n 0, 1) := dk_42 (dk_at dksX8_feast_0 0 rfl rfl)
theorem dX8_feast_1 : decode cX8_feast 1 = .ok (.iconst 0, 1) := dk_3 (dk_at dksX8_feast_0 1 rfl rfl)
theorem dX8_feast_2 : decode cX8_feast 2 = .ok (.putfield 150, 3) := dk_181 0 150 (dk_at dksX8_feast_0 2 rfl rfl)
theorem dX8_feast_5 : decode cX8_feast 5 = .ok (.aload_n 0, 1) := dk_42 (dk_at dksX8_feast_0 5 rfl rfl)
theorem dX8_feast_6 : decode cX8_feast 6 = .ok (.iload_n 1, 1) := dk_27 (dk_at dksX8_feast_0 6 rfl rfl)
theorem dX8_feast_7 : decode cX8_feast 7 = .ok (.invokevirtual 413, 3) := dk_182 1 157 (dk_at dksX8_feast_0 7 rfl rfl)
theorem dX8_feast_10 : decode cX8_feast 10 = .ok (.ifCond .ne 9, 3) := dk_154 0 9 (dk_at dksX8_feast_0 10 rfl rfl)
theorem dX8_feast_13 : decode cX8_feast 13 = .ok (.aload_n 0, 1) := dk_42 (dk_at dksX8_feast_0 13 rfl rfl)
theorem dX8_feast_14 : decode cX8_feast 14 = .ok (.iconst 1, 1) := dk_4 (dk_at dksX8_feast_0 14 rfl rfl)
theorem dX8_feast_15 : decode cX8_feast 15 = .ok (.invokevirtual 298, 3) := dk_182 1 42 (dk_at dksX8_feast_0 15 rfl rfl)
theorem dX8_feast_18 : decode cX8_feast 18 = .ok (.ireturn, 1) := dk_172 (dk_at dksX8_feast_0 18 rfl rfl)
theorem dX8_feast_19 : decode cX8_feast 19 = .ok (.aload_n 0, 1) := dk_42 (dk_at dksX8_feast_0 19 rfl rfl)
theorem dX8_feast_20 : decode cX8_feast 20 = .ok (.getfield 317, 3) := dk_180 1 61 (dk_at dksX8_feast_0 20 rfl rfl)
theorem dX8_feast_23 : decode cX8_feast 23 = .ok (.iconst 4, 1) := dk_7 (dk_at dksX8_feast_0 23 rfl rfl)
theorem dX8_feast_24 : decode cX8_feast 24 = .ok (.if_icmp .eq 28, 3) := dk_159 0 28 (dk_at dksX8_feast_1 0 rfl rfl)
theorem dX8_feast_27 : decode cX8_feast 27 = .ok (.iload_n 2, 1) := dk_28 (dk_at dksX8_feast_1 3 rfl rfl)
theorem dX8_feast_28 : decode cX8_feast 28 = .ok (.i2l, 1) := dk_133 (dk_at dksX8_feast_1 4 rfl rfl)
theorem dX8_feast_29 : decode cX8_feast 29 = .ok (.lconst 0, 1) := dk_9 (dk_at dksX8_feast_1 5 rfl rfl)
theorem dX8_feast_30 : decode cX8_feast 30 = .ok (.ldc2_w 441, 3) := dk_20 1 185 (dk_at dksX8_feast_1 6 rfl rfl)
theorem dX8_feast_33 : decode cX8_feast 33 = .ok (.invokestatic 153, 3) := dk_184 0 153 (dk_at dksX8_feast_1 9 rfl rfl)
theorem dX8_feast_36 : decode cX8_feast 36 = .ok (.ifCond .eq 16, 3) := dk_153 0 16 (dk_at dksX8_feast_1 12 rfl rfl)
theorem dX8_feast_39 : decode cX8_feast 39 = .ok (.iload_n 3, 1) := dk_29 (dk_at dksX8_feast_1 15 rfl rfl)
theorem dX8_feast_40 : decode cX8_feast 40 = .ok (.i2l, 1) := dk_133 (dk_at dksX8_feast_1 16 rfl rfl)
theorem dX8_feast_41 : decode cX8_feast 41 = .ok (.iload_n 2, 1) := dk_28 (dk_at dksX8_feast_1 17 rfl rfl)
theorem dX8_feast_42 : decode cX8_feast 42 = .ok (.i2l, 1) := dk_133 (dk_at dksX8_feast_1 18 rfl rfl)
theorem dX8_feast_43 : decode cX8_feast 43 = .ok (.ldc2_w 441, 3) := dk_20 1 185 (dk_at dksX8_feast_1 19 rfl rfl)
theorem dX8_feast_46 : decode cX8_feast 46 = .ok (.invokestatic 153, 3) := dk_184 0 153 (dk_at dksX8_feast_2 0 rfl rfl)
theorem dX8_feast_49 : decode cX8_feast 49 = .ok (.ifCond .ne 9, 3) := dk_154 0 9 (dk_at dksX8_feast_2 3 rfl rfl)
theorem dX8_feast_52 : decode cX8_feast 52 = .ok (.aload_n 0, 1) := dk_42 (dk_at dksX8_feast_2 6 rfl rfl)
theorem dX8_feast_53 : decode cX8_feast 53 = .ok (.iconst 1, 1) := dk_4 (dk_at dksX8_feast_2 7 rfl rfl)
theorem dX8_feast_54 : decode cX8_feast 54 = .ok (.invokevirtual 435, 3) := dk_182 1 179 (dk_at dksX8_feast_2 8 rfl rfl)
theorem dX8_feast_57 : decode cX8_feast 57 = .ok (.ireturn, 1) := dk_172 (dk_at dksX8_feast_2 11 rfl rfl)
theorem dX8_feast_58 : decode cX8_feast 58 = .ok (.aload_n 0, 1) := dk_42 (dk_at dksX8_feast_2 12 rfl rfl)
theorem dX8_feast_59 : decode cX8_feast 59 = .ok (.invokevirtual 438, 3) := dk_182 1 182 (dk_at dksX8_feast_2 13 rfl rfl)
theorem dX8_feast_62 : decode cX8_feast 62 = .ok (.aload_n 0, 1) := dk_42 (dk_at dksX8_feast_2 16 rfl rfl)
theorem dX8_feast_63 : decode cX8_feast 63 = .ok (.getfield 76, 3) := dk_180 0 76 (dk_at dksX8_feast_2 17 rfl rfl)
theorem dX8_feast_66 : decode cX8_feast 66 = .ok (.aload_n 0, 1) := dk_42 (dk_at dksX8_feast_2 20 rfl rfl)
theorem dX8_feast_67 : decode cX8_feast 67 = .ok (.getfield 317, 3) := dk_180 1 61 (dk_at dksX8_feast_2 21 rfl rfl)
theorem dX8_feast_70 : decode cX8_feast 70 = .ok (.iload_n 1, 1) := dk_27 (dk_at dksX8_feast_3 0 rfl rfl)
theorem dX8_feast_71 : decode cX8_feast 71 = .ok (.iload_n 2, 1) := dk_28 (dk_at dksX8_feast_3 1 rfl rfl)
theorem dX8_feast_72 : decode cX8_feast 72 = .ok (.iload_n 3, 1) := dk_29 (dk_at dksX8_feast_3 2 rfl rfl)
theorem dX8_feast_73 : decode cX8_feast 73 = .ok (.invokestatic 443, 3) := dk_184 1 187 (dk_at dksX8_feast_3 3 rfl rfl)
theorem dX8_feast_76 : decode cX8_feast 76 = .ok (.aload_n 0, 1) := dk_42 (dk_at dksX8_feast_3 6 rfl rfl)
theorem dX8_feast_77 : decode cX8_feast 77 = .ok (.dup, 1) := dk_89 (dk_at dksX8_feast_3 7 rfl rfl)
theorem dX8_feast_78 : decode cX8_feast 78 = .ok (.getfield 317, 3) := dk_180 1 61 (dk_at dksX8_feast_3 8 rfl rfl)
theorem dX8_feast_81 : decode cX8_feast 81 = .ok (.iconst 1, 1) := dk_4 (dk_at dksX8_feast_3 11 rfl rfl)
theorem dX8_feast_82 : decode cX8_feast 82 = .ok (.iadd, 1) := dk_96 (dk_at dksX8_feast_3 12 rfl rfl)
theorem dX8_feast_83 : decode cX8_feast 83 = .ok (.putfield 317, 3) := dk_181 1 61 (dk_at dksX8_feast_3 13 rfl rfl)
theorem dX8_feast_86 : decode cX8_feast 86 = .ok (.aload_n 0, 1) := dk_42 (dk_at dksX8_feast_3 16 rfl rfl)
theorem dX8_feast_87 : decode cX8_feast 87 = .ok (.getfield 317, 3) := dk_180 1 61 (dk_at dksX8_feast_3 17 rfl rfl)
theorem dX8_feast_90 : decode cX8_feast 90 = .ok (.ireturn, 1) := dk_172 (dk_at dksX8_feast_3 20 rfl rfl)
abbrev cX8_flood : ByteArray := prog_20_method_83_code
def yX8_flood : MethodName := ⟨RX8, "flood", "(III)I"⟩
def dkwX8_flood_3 : List UInt8 := [184, 1, 187, 42, 89, 180, 1, 64, 4, 96, 181, 1, 64, 42, 180, 1, 64, 172]
abbrev dktX8_flood_3 : List UInt8 := dkwX8_flood_3 ++ []
def dkwX8_flood_2 : List UInt8 := [154, 0, 9, 42, 4, 182, 1, 179, 172, 42, 182, 1, 182, 42, 180, 0, 79, 42, 180, 1, 64, 27, 28, 29]
abbrev dktX8_flood_2 : List UInt8 := dkwX8_flood_2 ++ dktX8_flood_3
def dkwX8_flood_1 : List UInt8 := [159, 0, 27, 28, 133, 9, 20, 1, 185, 184, 0, 153, 153, 0, 15, 29, 133, 9, 20, 1, 191, 184, 0, 153]
abbrev dktX8_flood_1 : List UInt8 := dkwX8_flood_1 ++ dktX8_flood_2
def dkwX8_flood_0 : List UInt8 := [42, 3, 181, 0, 150, 42, 27, 182, 1, 157, 154, 0, 9, 42, 4, 182, 1, 42, 172, 42, 180, 1, 64, 7]
abbrev dktX8_flood_0 : List UInt8 := dkwX8_flood_0 ++ dktX8_flood_1
theorem dksX8_flood_0 : cX8_flood.data.toList.drop 0 = dktX8_flood_0 := by decide +kernel
theorem dksX8_flood_1 : cX8_flood.data.toList.drop 24 = dktX8_flood_1 := dk_seg dksX8_flood_0 24 rfl rfl
theorem dksX8_flood_2 : cX8_flood.data.toList.drop 48 = dktX8_flood_2 := dk_seg dksX8_flood_1 24 rfl rfl
theorem dksX8_flood_3 : cX8_flood.data.toList.drop 72 = dktX8_flood_3 := dk_seg dksX8_flood_2 24 rfl rfl
theorem dX8_flood_0 : decode cX8_flood 0 = .ok (.aload_n 0, 1) := dk_42 (dk_at dksX8_flood_0 0 rfl rfl)
theorem dX8_flood_1 : decode cX8_flood 1 = .ok (.iconst 0, 1) := dk_3 (dk_at dksX8_flood_0 1 rfl rfl)
theorem dX8_flood_2 : decode cX8_flood 2 = .ok (.putfield 150, 3) := dk_181 0 150 (dk_at dksX8_flood_0 2 rfl rfl)
theorem dX8_flood_5 : decode cX8_flood 5 = .ok (.aload_n 0, 1) := dk_42 (dk_at dksX8_flood_0 5 rfl rfl)
theorem dX8_flood_6 : decode cX8_flood 6 = .ok (.iload_n 1, 1) := dk_27 (dk_at dksX8_flood_0 6 rfl rfl)
theorem dX8_flood_7 : decode cX8_flood 7 = .ok (.invokevirtual 413, 3) := dk_182 1 157 (dk_at dksX8_flood_0 7 rfl rfl)
theorem dX8_flood_10 : decode cX8_flood 10 = .ok (.ifCond .ne 9, 3) := dk_154 0 9 (dk_at dksX8_flood_0 10 rfl rfl)
theorem dX8_flood_13 : decode cX8_flood 13 = .ok (.aload_n 0, 1) := dk_42 (dk_at dksX8_flood_0 13 rfl rfl)
theorem dX8_flood_14 : decode cX8_flood 14 = .ok (.iconst 1, 1) := dk_4 (dk_at dksX8_flood_0 14 rfl rfl)
theorem dX8_flood_15 : decode cX8_flood 15 = .ok (.invokevirtual 298, 3) := dk_182 1 42 (dk_at dksX8_flood_0 15 rfl rfl)
theorem dX8_flood_18 : decode cX8_flood 18 = .ok (.ireturn, 1) := dk_172 (dk_at dksX8_flood_0 18 rfl rfl)
theorem dX8_flood_19 : decode cX8_flood 19 = .ok (.aload_n 0, 1) := dk_42 (dk_at dksX8_flood_0 19 rfl rfl)
theorem dX8_flood_20 : decode cX8_flood 20 = .ok (.getfield 320, 3) := dk_180 1 64 (dk_at dksX8_flood_0 20 rfl rfl)
theorem dX8_flood_23 : decode cX8_flood 23 = .ok (.iconst 4, 1) := dk_7 (dk_at dksX8_flood_0 23 rfl rfl)
theorem dX8_flood_24 : decode cX8_flood 24 = .ok (.if_icmp .eq 27, 3) := dk_159 0 27 (dk_at dksX8_flood_1 0 rfl rfl)
theorem dX8_flood_27 : decode cX8_flood 27 = .ok (.iload_n 2, 1) := dk_28 (dk_at dksX8_flood_1 3 rfl rfl)
theorem dX8_flood_28 : decode cX8_flood 28 = .ok (.i2l, 1) := dk_133 (dk_at dksX8_flood_1 4 rfl rfl)
theorem dX8_flood_29 : decode cX8_flood 29 = .ok (.lconst 0, 1) := dk_9 (dk_at dksX8_flood_1 5 rfl rfl)
theorem dX8_flood_30 : decode cX8_flood 30 = .ok (.ldc2_w 441, 3) := dk_20 1 185 (dk_at dksX8_flood_1 6 rfl rfl)
theorem dX8_flood_33 : decode cX8_flood 33 = .ok (.invokestatic 153, 3) := dk_184 0 153 (dk_at dksX8_flood_1 9 rfl rfl)
theorem dX8_flood_36 : decode cX8_flood 36 = .ok (.ifCond .eq 15, 3) := dk_153 0 15 (dk_at dksX8_flood_1 12 rfl rfl)
theorem dX8_flood_39 : decode cX8_flood 39 = .ok (.iload_n 3, 1) := dk_29 (dk_at dksX8_flood_1 15 rfl rfl)
theorem dX8_flood_40 : decode cX8_flood 40 = .ok (.i2l, 1) := dk_133 (dk_at dksX8_flood_1 16 rfl rfl)
theorem dX8_flood_41 : decode cX8_flood 41 = .ok (.lconst 0, 1) := dk_9 (dk_at dksX8_flood_1 17 rfl rfl)
theorem dX8_flood_42 : decode cX8_flood 42 = .ok (.ldc2_w 447, 3) := dk_20 1 191 (dk_at dksX8_flood_1 18 rfl rfl)
theorem dX8_flood_45 : decode cX8_flood 45 = .ok (.invokestatic 153, 3) := dk_184 0 153 (dk_at dksX8_flood_1 21 rfl rfl)
theorem dX8_flood_48 : decode cX8_flood 48 = .ok (.ifCond .ne 9, 3) := dk_154 0 9 (dk_at dksX8_flood_2 0 rfl rfl)
theorem dX8_flood_51 : decode cX8_flood 51 = .ok (.aload_n 0, 1) := dk_42 (dk_at dksX8_flood_2 3 rfl rfl)
theorem dX8_flood_52 : decode cX8_flood 52 = .ok (.iconst 1, 1) := dk_4 (dk_at dksX8_flood_2 4 rfl rfl)
theorem dX8_flood_53 : decode cX8_flood 53 = .ok (.invokevirtual 435, 3) := dk_182 1 179 (dk_at dksX8_flood_2 5 rfl rfl)
theorem dX8_flood_56 : decode cX8_flood 56 = .ok (.ireturn, 1) := dk_172 (dk_at dksX8_flood_2 8 rfl rfl)
theorem dX8_flood_57 : decode cX8_flood 57 = .ok (.aload_n 0, 1) := dk_42 (dk_at dksX8_flood_2 9 rfl rfl)
theorem dX8_flood_58 : decode cX8_flood 58 = .ok (.invokevirtual 438, 3) := dk_182 1 182 (dk_at dksX8_flood_2 10 rfl rfl)
theorem dX8_flood_61 : decode cX8_flood 61 = .ok (.aload_n 0, 1) := dk_42 (dk_at dksX8_flood_2 13 rfl rfl)
theorem dX8_flood_62 : decode cX8_flood 62 = .ok (.getfield 79, 3) := dk_180 0 79 (dk_at dksX8_flood_2 14 rfl rfl)
theorem dX8_flood_65 : decode cX8_flood 65 = .ok (.aload_n 0, 1) := dk_42 (dk_at dksX8_flood_2 17 rfl rfl)
theorem dX8_flood_66 : decode cX8_flood 66 = .ok (.getfield 320, 3) := dk_180 1 64 (dk_at dksX8_flood_2 18 rfl rfl)
theorem dX8_flood_69 : decode cX8_flood 69 = .ok (.iload_n 1, 1) := dk_27 (dk_at dksX8_flood_2 21 rfl rfl)
theorem dX8_flood_70 : decode cX8_flood 70 = .ok (.iload_n 2, 1) := dk_28 (dk_at dksX8_flood_2 22 rfl rfl)
theorem dX8_flood_71 : decode cX8_flood 71 = .ok (.iload_n 3, 1) := dk_29 (dk_at dksX8_flood_2 23 rfl rfl)
theorem dX8_flood_72 : decode cX8_flood 72 = .ok (.invokestatic 443, 3) := dk_184 1 187 (dk_at dksX8_flood_3 0 rfl rfl)
theorem dX8_flood_75 : decode cX8_flood 75 = .ok (.aload_n 0, 1) := dk_42 (dk_at dksX8_flood_3 3 rfl rfl)
theorem dX8_flood_76 : decode cX8_flood 76 = .ok (.dup, 1) := dk_89 (dk_at dksX8_flood_3 4 rfl rfl)
theorem dX8_flood_77 : decode cX8_flood 77 = .ok (.getfield 320, 3) := dk_180 1 64 (dk_at dksX8_flood_3 5 rfl rfl)
theorem dX8_flood_80 : decode cX8_flood 80 = .ok (.iconst 1, 1) := dk_4 (dk_at dksX8_flood_3 8 rfl rfl)
theorem dX8_flood_81 : decode cX8_flood 81 = .ok (.iadd, 1) := dk_96 (dk_at dksX8_flood_3 9 rfl rfl)
theorem dX8_flood_82 : decode cX8_flood 82 = .ok (.putfield 320, 3) := dk_181 1 64 (dk_at dksX8_flood_3 10 rfl rfl)
theorem dX8_flood_85 : decode cX8_flood 85 = .ok (.aload_n 0, 1) := dk_42 (dk_at dksX8_flood_3 13 rfl rfl)
theorem dX8_flood_86 : decode cX8_flood 86 = .ok (.getfield 320, 3) := dk_180 1 64 (dk_at dksX8_flood_3 14 rfl rfl)
theorem dX8_flood_89 : decode cX8_flood 89 = .ok (.ireturn, 1) := dk_172 (dk_at dksX8_flood_3 17 rfl rfl)
abbrev cX8_undo : ByteArray := prog_20_method_84_code
def yX8_undo : MethodName := ⟨RX8, "undo", "()I"⟩
def dkwX8_undo_1 : List UInt8 := [42, 42, 180, 0, 82, 16, 45, 42, 180, 1, 67, 104, 182, 1, 193, 42, 180, 1, 67, 172]
abbrev dktX8_undo_1 : List UInt8 := dkwX8_undo_1 ++ []
def dkwX8_undo_0 : List UInt8 := [42, 3, 181, 0, 150, 42, 180, 1, 67, 154, 0, 5, 2, 172, 42, 89, 180, 1, 67, 4, 100, 181, 1, 67]
abbrev dktX8_undo_0 : List UInt8 := dkwX8_undo_0 ++ dktX8_undo_1
theorem dksX8_undo_0 : cX8_undo.data.toList.drop 0 = dktX8_undo_0 := by decide +kernel
theorem dksX8_undo_1 : cX8_undo.data.toList.drop 24 = dktX8_undo_1 := dk_seg dksX8_undo_0 24 rfl rfl
theorem dX8_undo_0 : decode cX8_undo 0 = .ok (.aload_n 0, 1) := dk_42 (dk_at dksX8_undo_0 0 rfl rfl)
theorem dX8_undo_1 : decode cX8_undo 1 = .ok (.iconst 0, 1) := dk_3 (dk_at dksX8_undo_0 1 rfl rfl)
theorem dX8_undo_2 : decode cX8_undo 2 = .ok (.putfield 150, 3) := dk_181 0 150 (dk_at dksX8_undo_0 2 rfl rfl)
theorem dX8_undo_5 : decode cX8_undo 5 = .ok (.aload_n 0, 1) := dk_42 (dk_at dksX8_undo_0 5 rfl rfl)
theorem dX8_undo_6 : decode cX8_undo 6 = .ok (.getfield 323, 3) := dk_180 1 67 (dk_at dksX8_undo_0 6 rfl rfl)
theorem dX8_undo_9 : decode cX8_undo 9 = .ok (.ifCond .ne 5, 3) := dk_154 0 5 (dk_at dksX8_undo_0 9 rfl rfl)
theorem dX8_undo_12 : decode cX8_undo 12 = .ok (.iconst (-1), 1) := dk_2 (dk_at dksX8_undo_0 12 rfl rfl)
theorem dX8_undo_13 : decode cX8_undo 13 = .ok (.ireturn, 1) := dk_172 (dk_at dksX8_undo_0 13 rfl rfl)
theorem dX8_undo_14 : decode cX8_undo 14 = .ok (.aload_n 0, 1) := dk_42 (dk_at dksX8_undo_0 14 rfl rfl)
theorem dX8_undo_15 : decode cX8_undo 15 = .ok (.dup, 1) := dk_89 (dk_at dksX8_undo_0 15 rfl rfl)
theorem dX8_undo_16 : decode cX8_undo 16 = .ok (.getfield 323, 3) := dk_180 1 67 (dk_at dksX8_undo_0 16 rfl rfl)
theorem dX8_undo_19 : decode cX8_undo 19 = .ok (.iconst 1, 1) := dk_4 (dk_at dksX8_undo_0 19 rfl rfl)
theorem dX8_undo_20 : decode cX8_undo 20 = .ok (.isub, 1) := dk_100 (dk_at dksX8_undo_0 20 rfl rfl)
theorem dX8_undo_21 : decode cX8_undo 21 = .ok (.putfield 323, 3) := dk_181 1 67 (dk_at dksX8_undo_0 21 rfl rfl)
theorem dX8_undo_24 : decode cX8_undo 24 = .ok (.aload_n 0, 1) := dk_42 (dk_at dksX8_undo_1 0 rfl rfl)
theorem dX8_undo_25 : decode cX8_undo 25 = .ok (.aload_n 0, 1) := dk_42 (dk_at dksX8_undo_1 1 rfl rfl)
theorem dX8_undo_26 : decode cX8_undo 26 = .ok (.getfield 82, 3) := dk_180 0 82 (dk_at dksX8_undo_1 2 rfl rfl)
theorem dX8_undo_29 : decode cX8_undo 29 = .ok (.bipush 45, 2) := dk_16 45 (dk_at dksX8_undo_1 5 rfl rfl)
theorem dX8_undo_31 : decode cX8_undo 31 = .ok (.aload_n 0, 1) := dk_42 (dk_at dksX8_undo_1 7 rfl rfl)
theorem dX8_undo_32 : decode cX8_undo 32 = .ok (.getfield 323, 3) := dk_180 1 67 (dk_at dksX8_undo_1 8 rfl rfl)
theorem dX8_undo_35 : decode cX8_undo 35 = .ok (.imul, 1) := dk_104 (dk_at dksX8_undo_1 11 rfl rfl)
theorem dX8_undo_36 : decode cX8_undo 36 = .ok (.invokevirtual 449, 3) := dk_182 1 193 (dk_at dksX8_undo_1 12 rfl rfl)
theorem dX8_undo_39 : decode cX8_undo 39 = .ok (.aload_n 0, 1) := dk_42 (dk_at dksX8_undo_1 15 rfl rfl)
theorem dX8_undo_40 : decode cX8_undo 40 = .ok (.getfield 323, 3) := dk_180 1 67 (dk_at dksX8_undo_1 16 rfl rfl)
theorem dX8_undo_43 : decode cX8_undo 43 = .ok (.ireturn, 1) := dk_172 (dk_at dksX8_undo_1 19 rfl rfl)
abbrev cX8_unpack : ByteArray := prog_20_method_43_code
def yX8_unpack : MethodName := ⟨RX8, "unpack", "([II)V"⟩
def dkwX8_unpack_5 : List UInt8 := [16, 24, 96, 21, 4, 96, 46, 79, 132, 4, 1, 167, 255, 201, 177]
abbrev dktX8_unpack_5 : List UInt8 := dkwX8_unpack_5 ++ []
def dkwX8_unpack_4 : List UInt8 := [180, 0, 76, 21, 4, 43, 29, 16, 12, 96, 21, 4, 96, 46, 79, 42, 180, 0, 79, 21, 4, 43, 29]
abbrev dktX8_unpack_4 : List UInt8 := dkwX8_unpack_4 ++ dktX8_unpack_5
def dkwX8_unpack_3 : List UInt8 := [3, 54, 4, 21, 4, 16, 12, 162, 0, 54, 42, 180, 0, 73, 21, 4, 43, 29, 21, 4, 96, 46, 79, 42]
abbrev dktX8_unpack_3 : List UInt8 := dkwX8_unpack_3 ++ dktX8_unpack_4
def dkwX8_unpack_2 : List UInt8 := [181, 1, 58, 42, 43, 29, 5, 96, 46, 181, 1, 61, 42, 43, 29, 6, 96, 46, 181, 1, 64, 132, 3, 4]
abbrev dktX8_unpack_2 : List UInt8 := dkwX8_unpack_2 ++ dktX8_unpack_3
def dkwX8_unpack_1 : List UInt8 := [132, 4, 1, 167, 255, 234, 132, 3, 5, 42, 43, 29, 46, 181, 1, 55, 42, 43, 29, 4, 96, 46]
abbrev dktX8_unpack_1 : List UInt8 := dkwX8_unpack_1 ++ dktX8_unpack_2
def dkwX8_unpack_0 : List UInt8 := [28, 62, 3, 54, 4, 21, 4, 8, 162, 0, 22, 42, 180, 0, 44, 21, 4, 43, 29, 21, 4, 96, 46, 79]
abbrev dktX8_unpack_0 : List UInt8 := dkwX8_unpack_0 ++ dktX8_unpack_1
theorem dksX8_unpack_0 : cX8_unpack.data.toList.drop 0 = dktX8_unpack_0 := by decide +kernel
theorem dksX8_unpack_1 : cX8_unpack.data.toList.drop 24 = dktX8_unpack_1 := dk_seg dksX8_unpack_0 24 rfl rfl
theorem dksX8_unpack_2 : cX8_unpack.data.toList.drop 46 = dktX8_unpack_2 := dk_seg dksX8_unpack_1 22 rfl rfl
theorem dksX8_unpack_3 : cX8_unpack.data.toList.drop 70 = dktX8_unpack_3 := dk_seg dksX8_unpack_2 24 rfl rfl
theorem dksX8_unpack_4 : cX8_unpack.data.toList.drop 94 = dktX8_unpack_4 := dk_seg dksX8_unpack_3 24 rfl rfl
theorem dksX8_unpack_5 : cX8_unpack.data.toList.drop 117 = dktX8_unpack_5 := dk_seg dksX8_unpack_4 23 rfl rfl
theorem dX8_unpack_0 : decode cX8_unpack 0 = .ok (.iload_n 2, 1) := dk_28 (dk_at dksX8_unpack_0 0 rfl rfl)
theorem dX8_unpack_1 : decode cX8_unpack 1 = .ok (.istore_n 3, 1) := dk_62 (dk_at dksX8_unpack_0 1 rfl rfl)
theorem dX8_unpack_2 : decode cX8_unpack 2 = .ok (.iconst 0, 1) := dk_3 (dk_at dksX8_unpack_0 2 rfl rfl)
theorem dX8_unpack_3 : decode cX8_unpack 3 = .ok (.istore 4, 2) := dk_54 4 (dk_at dksX8_unpack_0 3 rfl rfl)
theorem dX8_unpack_5 : decode cX8_unpack 5 = .ok (.iload 4, 2) := dk_21 4 (dk_at dksX8_unpack_0 5 rfl rfl)
theorem dX8_unpack_7 : decode cX8_unpack 7 = .ok (.iconst 5, 1) := dk_8 (dk_at dksX8_unpack_0 7 rfl rfl)
theorem dX8_unpack_8 : decode cX8_unpack 8 = .ok (.if_icmp .ge 22, 3) := dk_162 0 22 (dk_at dksX8_unpack_0 8 rfl rfl)
theorem dX8_unpack_11 : decode cX8_unpack 11 = .ok (.aload_n 0, 1) := dk_42 (dk_at dksX8_unpack_0 11 rfl rfl)
theorem dX8_unpack_12 : decode cX8_unpack 12 = .ok (.getfield 44, 3) := dk_180 0 44 (dk_at dksX8_unpack_0 12 rfl rfl)
theorem dX8_unpack_15 : decode cX8_unpack 15 = .ok (.iload 4, 2) := dk_21 4 (dk_at dksX8_unpack_0 15 rfl rfl)
theorem dX8_unpack_17 : decode cX8_unpack 17 = .ok (.aload_n 1, 1) := dk_43 (dk_at dksX8_unpack_0 17 rfl rfl)
theorem dX8_unpack_18 : decode cX8_unpack 18 = .ok (.iload_n 3, 1) := dk_29 (dk_at dksX8_unpack_0 18 rfl rfl)
theorem dX8_unpack_19 : decode cX8_unpack 19 = .ok (.iload 4, 2) := dk_21 4 (dk_at dksX8_unpack_0 19 rfl rfl)
theorem dX8_unpack_21 : decode cX8_unpack 21 = .ok (.iadd, 1) := dk_96 (dk_at dksX8_unpack_0 21 rfl rfl)
theorem dX8_unpack_22 : decode cX8_unpack 22 = .ok (.iaload, 1) := dk_46 (dk_at dksX8_unpack_0 22 rfl rfl)
theorem dX8_unpack_23 : decode cX8_unpack 23 = .ok (.iastore, 1) := dk_79 (dk_at dksX8_unpack_0 23 rfl rfl)
theorem dX8_unpack_24 : decode cX8_unpack 24 = .ok (.iinc 4 1, 3) := dk_132 4 1 (dk_at dksX8_unpack_1 0 rfl rfl)
theorem dX8_unpack_27 : decode cX8_unpack 27 = .ok (.goto (-22), 3) := dk_167 255 234 (dk_at dksX8_unpack_1 3 rfl rfl)
theorem dX8_unpack_30 : decode cX8_unpack 30 = .ok (.iinc 3 5, 3) := dk_132 3 5 (dk_at dksX8_unpack_1 6 rfl rfl)
theorem dX8_unpack_33 : decode cX8_unpack 33 = .ok (.aload_n 0, 1) := dk_42 (dk_at dksX8_unpack_1 9 rfl rfl)
theorem dX8_unpack_34 : decode cX8_unpack 34 = .ok (.aload_n 1, 1) := dk_43 (dk_at dksX8_unpack_1 10 rfl rfl)
theorem dX8_unpack_35 : decode cX8_unpack 35 = .ok (.iload_n 3, 1) := dk_29 (dk_at dksX8_unpack_1 11 rfl rfl)
theorem dX8_unpack_36 : decode cX8_unpack 36 = .ok (.iaload, 1) := dk_46 (dk_at dksX8_unpack_1 12 rfl rfl)
theorem dX8_unpack_37 : decode cX8_unpack 37 = .ok (.putfield 311, 3) := dk_181 1 55 (dk_at dksX8_unpack_1 13 rfl rfl)
theorem dX8_unpack_40 : decode cX8_unpack 40 = .ok (.aload_n 0, 1) := dk_42 (dk_at dksX8_unpack_1 16 rfl rfl)
theorem dX8_unpack_41 : decode cX8_unpack 41 = .ok (.aload_n 1, 1) := dk_43 (dk_at dksX8_unpack_1 17 rfl rfl)
theorem dX8_unpack_42 : decode cX8_unpack 42 = .ok (.iload_n 3, 1) := dk_29 (dk_at dksX8_unpack_1 18 rfl rfl)
theorem dX8_unpack_43 : decode cX8_unpack 43 = .ok (.iconst 1, 1) := dk_4 (dk_at dksX8_unpack_1 19 rfl rfl)
theorem dX8_unpack_44 : decode cX8_unpack 44 = .ok (.iadd, 1) := dk_96 (dk_at dksX8_unpack_1 20 rfl rfl)
theorem dX8_unpack_45 : decode cX8_unpack 45 = .ok (.iaload, 1) := dk_46 (dk_at dksX8_unpack_1 21 rfl rfl)
theorem dX8_unpack_46 : decode cX8_unpack 46 = .ok (.putfield 314, 3) := dk_181 1 58 (dk_at dksX8_unpack_2 0 rfl rfl)
theorem dX8_unpack_49 : decode cX8_unpack 49 = .ok (.aload_n 0, 1) := dk_42 (dk_at dksX8_unpack_2 3 rfl rfl)
theorem dX8_unpack_50 : decode cX8_unpack 50 = .ok (.aload_n 1, 1) := dk_43 (dk_at dksX8_unpack_2 4 rfl rfl)
theorem dX8_unpack_51 : decode cX8_unpack 51 = .ok (.iload_n 3, 1) := dk_29 (dk_at dksX8_unpack_2 5 rfl rfl)
theorem dX8_unpack_52 : decode cX8_unpack 52 = .ok (.iconst 2, 1) := dk_5 (dk_at dksX8_unpack_2 6 rfl rfl)
theorem dX8_unpack_53 : decode cX8_unpack 53 = .ok (.iadd, 1) := dk_96 (dk_at dksX8_unpack_2 7 rfl rfl)
theorem dX8_unpack_54 : decode cX8_unpack 54 = .ok (.iaload, 1) := dk_46 (dk_at dksX8_unpack_2 8 rfl rfl)
theorem dX8_unpack_55 : decode cX8_unpack 55 = .ok (.putfield 317, 3) := dk_181 1 61 (dk_at dksX8_unpack_2 9 rfl rfl)
theorem dX8_unpack_58 : decode cX8_unpack 58 = .ok (.aload_n 0, 1) := dk_42 (dk_at dksX8_unpack_2 12 rfl rfl)
theorem dX8_unpack_59 : decode cX8_unpack 59 = .ok (.aload_n 1, 1) := dk_43 (dk_at dksX8_unpack_2 13 rfl rfl)
theorem dX8_unpack_60 : decode cX8_unpack 60 = .ok (.iload_n 3, 1) := dk_29 (dk_at dksX8_unpack_2 14 rfl rfl)
theorem dX8_unpack_61 : decode cX8_unpack 61 = .ok (.iconst 3, 1) := dk_6 (dk_at dksX8_unpack_2 15 rfl rfl)
theorem dX8_unpack_62 : decode cX8_unpack 62 = .ok (.iadd, 1) := dk_96 (dk_at dksX8_unpack_2 16 rfl rfl)
theorem dX8_unpack_63 : decode cX8_unpack 63 = .ok (.iaload, 1) := dk_46 (dk_at dksX8_unpack_2 17 rfl rfl)
theorem dX8_unpack_64 : decode cX8_unpack 64 = .ok (.putfield 320, 3) := dk_181 1 64 (dk_at dksX8_unpack_2 18 rfl rfl)
theorem dX8_unpack_67 : decode cX8_unpack 67 = .ok (.iinc 3 4, 3) := dk_132 3 4 (dk_at dksX8_unpack_2 21 rfl rfl)
theorem dX8_unpack_70 : decode cX8_unpack 70 = .ok (.iconst 0, 1) := dk_3 (dk_at dksX8_unpack_3 0 rfl rfl)
theorem dX8_unpack_71 : decode cX8_unpack 71 = .ok (.istore 4, 2) := dk_54 4 (dk_at dksX8_unpack_3 1 rfl rfl)
theorem dX8_unpack_73 : decode cX8_unpack 73 = .ok (.iload 4, 2) := dk_21 4 (dk_at dksX8_unpack_3 3 rfl rfl)
theorem dX8_unpack_75 : decode cX8_unpack 75 = .ok (.bipush 12, 2) := dk_16 12 (dk_at dksX8_unpack_3 5 rfl rfl)
theorem dX8_unpack_77 : decode cX8_unpack 77 = .ok (.if_icmp .ge 54, 3) := dk_162 0 54 (dk_at dksX8_unpack_3 7 rfl rfl)
theorem dX8_unpack_80 : decode cX8_unpack 80 = .ok (.aload_n 0, 1) := dk_42 (dk_at dksX8_unpack_3 10 rfl rfl)
theorem dX8_unpack_81 : decode cX8_unpack 81 = .ok (.getfield 73, 3) := dk_180 0 73 (dk_at dksX8_unpack_3 11 rfl rfl)
theorem dX8_unpack_84 : decode cX8_unpack 84 = .ok (.iload 4, 2) := dk_21 4 (dk_at dksX8_unpack_3 14 rfl rfl)
theorem dX8_unpack_86 : decode cX8_unpack 86 = .ok (.aload_n 1, 1) := dk_43 (dk_at dksX8_unpack_3 16 rfl rfl)
theorem dX8_unpack_87 : decode cX8_unpack 87 = .ok (.iload_n 3, 1) := dk_29 (dk_at dksX8_unpack_3 17 rfl rfl)
theorem dX8_unpack_88 : decode cX8_unpack 88 = .ok (.iload 4, 2) := dk_21 4 (dk_at dksX8_unpack_3 18 rfl rfl)
theorem dX8_unpack_90 : decode cX8_unpack 90 = .ok (.iadd, 1) := dk_96 (dk_at dksX8_unpack_3 20 rfl rfl)
theorem dX8_unpack_91 : decode cX8_unpack 91 = .ok (.iaload, 1) := dk_46 (dk_at dksX8_unpack_3 21 rfl rfl)
theorem dX8_unpack_92 : decode cX8_unpack 92 = .ok (.iastore, 1) := dk_79 (dk_at dksX8_unpack_3 22 rfl rfl)
theorem dX8_unpack_93 : decode cX8_unpack 93 = .ok (.aload_n 0, 1) := dk_42 (dk_at dksX8_unpack_3 23 rfl rfl)
theorem dX8_unpack_94 : decode cX8_unpack 94 = .ok (.getfield 76, 3) := dk_180 0 76 (dk_at dksX8_unpack_4 0 rfl rfl)
theorem dX8_unpack_97 : decode cX8_unpack 97 = .ok (.iload 4, 2) := dk_21 4 (dk_at dksX8_unpack_4 3 rfl rfl)
theorem dX8_unpack_99 : decode cX8_unpack 99 = .ok (.aload_n 1, 1) := dk_43 (dk_at dksX8_unpack_4 5 rfl rfl)
theorem dX8_unpack_100 : decode cX8_unpack 100 = .ok (.iload_n 3, 1) := dk_29 (dk_at dksX8_unpack_4 6 rfl rfl)
theorem dX8_unpack_101 : decode cX8_unpack 101 = .ok (.bipush 12, 2) := dk_16 12 (dk_at dksX8_unpack_4 7 rfl rfl)
theorem dX8_unpack_103 : decode cX8_unpack 103 = .ok (.iadd, 1) := dk_96 (dk_at dksX8_unpack_4 9 rfl rfl)
theorem dX8_unpack_104 : decode cX8_unpack 104 = .ok (.iload 4, 2) := dk_21 4 (dk_at dksX8_unpack_4 10 rfl rfl)
theorem dX8_unpack_106 : decode cX8_unpack 106 = .ok (.iadd, 1) := dk_96 (dk_at dksX8_unpack_4 12 rfl rfl)
theorem dX8_unpack_107 : decode cX8_unpack 107 = .ok (.iaload, 1) := dk_46 (dk_at dksX8_unpack_4 13 rfl rfl)
theorem dX8_unpack_108 : decode cX8_unpack 108 = .ok (.iastore, 1) := dk_79 (dk_at dksX8_unpack_4 14 rfl rfl)
theorem dX8_unpack_109 : decode cX8_unpack 109 = .ok (.aload_n 0, 1) := dk_42 (dk_at dksX8_unpack_4 15 rfl rfl)
theorem dX8_unpack_110 : decode cX8_unpack 110 = .ok (.getfield 79, 3) := dk_180 0 79 (dk_at dksX8_unpack_4 16 rfl rfl)
theorem dX8_unpack_113 : decode cX8_unpack 113 = .ok (.iload 4, 2) := dk_21 4 (dk_at dksX8_unpack_4 19 rfl rfl)
theorem dX8_unpack_115 : decode cX8_unpack 115 = .ok (.aload_n 1, 1) := dk_43 (dk_at dksX8_unpack_4 21 rfl rfl)
theorem dX8_unpack_116 : decode cX8_unpack 116 = .ok (.iload_n 3, 1) := dk_29 (dk_at dksX8_unpack_4 22 rfl rfl)
theorem dX8_unpack_117 : decode cX8_unpack 117 = .ok (.bipush 24, 2) := dk_16 24 (dk_at dksX8_unpack_5 0 rfl rfl)
theorem dX8_unpack_119 : decode cX8_unpack 119 = .ok (.iadd, 1) := dk_96 (dk_at dksX8_unpack_5 2 rfl rfl)
theorem dX8_unpack_120 : decode cX8_unpack 120 = .ok (.iload 4, 2) := dk_21 4 (dk_at dksX8_unpack_5 3 rfl rfl)
theorem dX8_unpack_122 : decode cX8_unpack 122 = .ok (.iadd, 1) := dk_96 (dk_at dksX8_unpack_5 5 rfl rfl)
theorem dX8_unpack_123 : decode cX8_unpack 123 = .ok (.iaload, 1) := dk_46 (dk_at dksX8_unpack_5 6 rfl rfl)
theorem dX8_unpack_124 : decode cX8_unpack 124 = .ok (.iastore, 1) := dk_79 (dk_at dksX8_unpack_5 7 rfl rfl)
theorem dX8_unpack_125 : decode cX8_unpack 125 = .ok (.iinc 4 1, 3) := dk_132 4 1 (dk_at dksX8_unpack_5 8 rfl rfl)
theorem dX8_unpack_128 : decode cX8_unpack 128 = .ok (.goto (-55), 3) := dk_167 255 201 (dk_at dksX8_unpack_5 11 rfl rfl)
theorem dX8_unpack_131 : decode cX8_unpack 131 = .ok (.return_, 1) := dk_177 (dk_at dksX8_unpack_5 14 rfl rfl)
abbrev cX8_burn : ByteArray := prog_20_method_85_code
def yX8_burn : MethodName := ⟨RX8, "burn", "(I)I"⟩
def dkwX8_burn_5 : List UInt8 := [172]
abbrev dktX8_burn_5 : List UInt8 := dkwX8_burn_5 ++ []
def dkwX8_burn_4 : List UInt8 := [167, 0, 9, 21, 4, 61, 21, 5, 62, 132, 4, 1, 167, 255, 180, 27, 154, 0, 7, 28, 167, 0, 4, 29]
abbrev dktX8_burn_4 : List UInt8 := dkwX8_burn_4 ++ dktX8_burn_5
def dkwX8_burn_3 : List UInt8 := [182, 1, 151, 54, 5, 42, 89, 180, 1, 55, 4, 21, 4, 120, 130, 181, 1, 55, 21, 5, 29, 163, 0, 6]
abbrev dktX8_burn_3 : List UInt8 := dkwX8_burn_3 ++ dktX8_burn_4
def dkwX8_burn_2 : List UInt8 := [122, 4, 126, 154, 0, 6, 167, 0, 50, 42, 89, 180, 1, 55, 4, 21, 4, 120, 130, 181, 1, 55, 42]
abbrev dktX8_burn_2 : List UInt8 := dkwX8_burn_2 ++ dktX8_burn_3
def dkwX8_burn_1 : List UInt8 := [2, 61, 2, 62, 3, 54, 4, 21, 4, 42, 180, 0, 34, 3, 46, 162, 0, 71, 42, 180, 1, 55, 21, 4]
abbrev dktX8_burn_1 : List UInt8 := dkwX8_burn_1 ++ dktX8_burn_2
def dkwX8_burn_0 : List UInt8 := [42, 3, 181, 0, 150, 27, 155, 0, 8, 27, 4, 164, 0, 9, 42, 4, 182, 1, 42, 172, 42, 182, 1, 148]
abbrev dktX8_burn_0 : List UInt8 := dkwX8_burn_0 ++ dktX8_burn_1
theorem dksX8_burn_0 : cX8_burn.data.toList.drop 0 = dktX8_burn_0 := by decide +kernel
theorem dksX8_burn_1 : cX8_burn.data.toList.drop 24 = dktX8_burn_1 := dk_seg dksX8_burn_0 24 rfl rfl
theorem dksX8_burn_2 : cX8_burn.data.toList.drop 48 = dktX8_burn_2 := dk_seg dksX8_burn_1 24 rfl rfl
theorem dksX8_burn_3 : cX8_burn.data.toList.drop 71 = dktX8_burn_3 := dk_seg dksX8_burn_2 23 rfl rfl
theorem dksX8_burn_4 : cX8_burn.data.toList.drop 95 = dktX8_burn_4 := dk_seg dksX8_burn_3 24 rfl rfl
theorem dksX8_burn_5 : cX8_burn.data.toList.drop 119 = dktX8_burn_5 := dk_seg dksX8_burn_4 24 rfl rfl
theorem dX8_burn_0 : decode cX8_burn 0 = .ok (.aload_n 0, 1) := dk_42 (dk_at dksX8_burn_0 0 rfl rfl)
theorem dX8_burn_1 : decode cX8_burn 1 = .ok (.iconst 0, 1) := dk_3 (dk_at dksX8_burn_0 1 rfl rfl)
theorem dX8_burn_2 : decode cX8_burn 2 = .ok (.putfield 150, 3) := dk_181 0 150 (dk_at dksX8_burn_0 2 rfl rfl)
theorem dX8_burn_5 : decode cX8_burn 5 = .ok (.iload_n 1, 1) := dk_27 (dk_at dksX8_burn_0 5 rfl rfl)
theorem dX8_burn_6 : decode cX8_burn 6 = .ok (.ifCond .lt 8, 3) := dk_155 0 8 (dk_at dksX8_burn_0 6 rfl rfl)
theorem dX8_burn_9 : decode cX8_burn 9 = .ok (.iload_n 1, 1) := dk_27 (dk_at dksX8_burn_0 9 rfl rfl)
theorem dX8_burn_10 : decode cX8_burn 10 = .ok (.iconst 1, 1) := dk_4 (dk_at dksX8_burn_0 10 rfl rfl)
theorem dX8_burn_11 : decode cX8_burn 11 = .ok (.if_icmp .le 9, 3) := dk_164 0 9 (dk_at dksX8_burn_0 11 rfl rfl)
theorem dX8_burn_14 : decode cX8_burn 14 = .ok (.aload_n 0, 1) := dk_42 (dk_at dksX8_burn_0 14 rfl rfl)
theorem dX8_burn_15 : decode cX8_burn 15 = .ok (.iconst 1, 1) := dk_4 (dk_at dksX8_burn_0 15 rfl rfl)
theorem dX8_burn_16 : decode cX8_burn 16 = .ok (.invokevirtual 298, 3) := dk_182 1 42 (dk_at dksX8_burn_0 16 rfl rfl)
theorem dX8_burn_19 : decode cX8_burn 19 = .ok (.ireturn, 1) := dk_172 (dk_at dksX8_burn_0 19 rfl rfl)
theorem dX8_burn_20 : decode cX8_burn 20 = .ok (.aload_n 0, 1) := dk_42 (dk_at dksX8_burn_0 20 rfl rfl)
theorem dX8_burn_21 : decode cX8_burn 21 = .ok (.invokevirtual 404, 3) := dk_182 1 148 (dk_at dksX8_burn_0 21 rfl rfl)
theorem dX8_burn_24 : decode cX8_burn 24 = .ok (.iconst (-1), 1) := dk_2 (dk_at dksX8_burn_1 0 rfl rfl)
theorem dX8_burn_25 : decode cX8_burn 25 = .ok (.istore_n 2, 1) := dk_61 (dk_at dksX8_burn_1 1 rfl rfl)
theorem dX8_burn_26 : decode cX8_burn 26 = .ok (.iconst (-1), 1) := dk_2 (dk_at dksX8_burn_1 2 rfl rfl)
theorem dX8_burn_27 : decode cX8_burn 27 = .ok (.istore_n 3, 1) := dk_62 (dk_at dksX8_burn_1 3 rfl rfl)
theorem dX8_burn_28 : decode cX8_burn 28 = .ok (.iconst 0, 1) := dk_3 (dk_at dksX8_burn_1 4 rfl rfl)
theorem dX8_burn_29 : decode cX8_burn 29 = .ok (.istore 4, 2) := dk_54 4 (dk_at dksX8_burn_1 5 rfl rfl)
theorem dX8_burn_31 : decode cX8_burn 31 = .ok (.iload 4, 2) := dk_21 4 (dk_at dksX8_burn_1 7 rfl rfl)
theorem dX8_burn_33 : decode cX8_burn 33 = .ok (.aload_n 0, 1) := dk_42 (dk_at dksX8_burn_1 9 rfl rfl)
theorem dX8_burn_34 : decode cX8_burn 34 = .ok (.getfield 34, 3) := dk_180 0 34 (dk_at dksX8_burn_1 10 rfl rfl)
theorem dX8_burn_37 : decode cX8_burn 37 = .ok (.iconst 0, 1) := dk_3 (dk_at dksX8_burn_1 13 rfl rfl)
theorem dX8_burn_38 : decode cX8_burn 38 = .ok (.iaload, 1) := dk_46 (dk_at dksX8_burn_1 14 rfl rfl)
theorem dX8_burn_39 : decode cX8_burn 39 = .ok (.if_icmp .ge 71, 3) := dk_162 0 71 (dk_at dksX8_burn_1 15 rfl rfl)
theorem dX8_burn_42 : decode cX8_burn 42 = .ok (.aload_n 0, 1) := dk_42 (dk_at dksX8_burn_1 18 rfl rfl)
theorem dX8_burn_43 : decode cX8_burn 43 = .ok (.getfield 311, 3) := dk_180 1 55 (dk_at dksX8_burn_1 19 rfl rfl)
theorem dX8_burn_46 : decode cX8_burn 46 = .ok (.iload 4, 2) := dk_21 4 (dk_at dksX8_burn_1 22 rfl rfl)
theorem dX8_burn_48 : decode cX8_burn 48 = .ok (.ishr, 1) := dk_122 (dk_at dksX8_burn_2 0 rfl rfl)
theorem dX8_burn_49 : decode cX8_burn 49 = .ok (.iconst 1, 1) := dk_4 (dk_at dksX8_burn_2 1 rfl rfl)
theorem dX8_burn_50 : decode cX8_burn 50 = .ok (.iand, 1) := dk_126 (dk_at dksX8_burn_2 2 rfl rfl)
theorem dX8_burn_51 : decode cX8_burn 51 = .ok (.ifCond .ne 6, 3) := dk_154 0 6 (dk_at dksX8_burn_2 3 rfl rfl)
theorem dX8_burn_54 : decode cX8_burn 54 = .ok (.goto 50, 3) := dk_167 0 50 (dk_at dksX8_burn_2 6 rfl rfl)
theorem dX8_burn_57 : decode cX8_burn 57 = .ok (.aload_n 0, 1) := dk_42 (dk_at dksX8_burn_2 9 rfl rfl)
theorem dX8_burn_58 : decode cX8_burn 58 = .ok (.dup, 1) := dk_89 (dk_at dksX8_burn_2 10 rfl rfl)
theorem dX8_burn_59 : decode cX8_burn 59 = .ok (.getfield 311, 3) := dk_180 1 55 (dk_at dksX8_burn_2 11 rfl rfl)
theorem dX8_burn_62 : decode cX8_burn 62 = .ok (.iconst 1, 1) := dk_4 (dk_at dksX8_burn_2 14 rfl rfl)
theorem dX8_burn_63 : decode cX8_burn 63 = .ok (.iload 4, 2) := dk_21 4 (dk_at dksX8_burn_2 15 rfl rfl)
theorem dX8_burn_65 : decode cX8_burn 65 = .ok (.ishl, 1) := dk_120 (dk_at dksX8_burn_2 17 rfl rfl)
theorem dX8_burn_66 : decode cX8_burn 66 = .ok (.ixor, 1) := dk_130 (dk_at dksX8_burn_2 18 rfl rfl)
theorem dX8_burn_67 : decode cX8_burn 67 = .ok (.putfield 311, 3) := dk_181 1 55 (dk_at dksX8_burn_2 19 rfl rfl)
theorem dX8_burn_70 : decode cX8_burn 70 = .ok (.aload_n 0, 1) := dk_42 (dk_at dksX8_burn_2 22 rfl rfl)
theorem dX8_burn_71 : decode cX8_burn 71 = .ok (.invokevirtual 407, 3) := dk_182 1 151 (dk_at dksX8_burn_3 0 rfl rfl)
theorem dX8_burn_74 : decode cX8_burn 74 = .ok (.istore 5, 2) := dk_54 5 (dk_at dksX8_burn_3 3 rfl rfl)
theorem dX8_burn_76 : decode cX8_burn 76 = .ok (.aload_n 0, 1) := dk_42 (dk_at dksX8_burn_3 5 rfl rfl)
theorem dX8_burn_77 : decode cX8_burn 77 = .ok (.dup, 1) := dk_89 (dk_at dksX8_burn_3 6 rfl rfl)
theorem dX8_burn_78 : decode cX8_burn 78 = .ok (.getfield 311, 3) := dk_180 1 55 (dk_at dksX8_burn_3 7 rfl rfl)
theorem dX8_burn_81 : decode cX8_burn 81 = .ok (.iconst 1, 1) := dk_4 (dk_at dksX8_burn_3 10 rfl rfl)
theorem dX8_burn_82 : decode cX8_burn 82 = .ok (.iload 4, 2) := dk_21 4 (dk_at dksX8_burn_3 11 rfl rfl)
theorem dX8_burn_84 : decode cX8_burn 84 = .ok (.ishl, 1) := dk_120 (dk_at dksX8_burn_3 13 rfl rfl)
theorem dX8_burn_85 : decode cX8_burn 85 = .ok (.ixor, 1) := dk_130 (dk_at dksX8_burn_3 14 rfl rfl)
theorem dX8_burn_86 : decode cX8_burn 86 = .ok (.putfield 311, 3) := dk_181 1 55 (dk_at dksX8_burn_3 15 rfl rfl)
theorem dX8_burn_89 : decode cX8_burn 89 = .ok (.iload 5, 2) := dk_21 5 (dk_at dksX8_burn_3 18 rfl rfl)
theorem dX8_burn_91 : decode cX8_burn 91 = .ok (.iload_n 3, 1) := dk_29 (dk_at dksX8_burn_3 20 rfl rfl)
theorem dX8_burn_92 : decode cX8_burn 92 = .ok (.if_icmp .gt 6, 3) := dk_163 0 6 (dk_at dksX8_burn_3 21 rfl rfl)
theorem dX8_burn_95 : decode cX8_burn 95 = .ok (.goto 9, 3) := dk_167 0 9 (dk_at dksX8_burn_4 0 rfl rfl)
theorem dX8_burn_98 : decode cX8_burn 98 = .ok (.iload 4, 2) := dk_21 4 (dk_at dksX8_burn_4 3 rfl rfl)
theorem dX8_burn_100 : decode cX8_burn 100 = .ok (.istore_n 2, 1) := dk_61 (dk_at dksX8_burn_4 5 rfl rfl)
theorem dX8_burn_101 : decode cX8_burn 101 = .ok (.iload 5, 2) := dk_21 5 (dk_at dksX8_burn_4 6 rfl rfl)
theorem dX8_burn_103 : decode cX8_burn 103 = .ok (.istore_n 3, 1) := dk_62 (dk_at dksX8_burn_4 8 rfl rfl)
theorem dX8_burn_104 : decode cX8_burn 104 = .ok (.iinc 4 1, 3) := dk_132 4 1 (dk_at dksX8_burn_4 9 rfl rfl)
theorem dX8_burn_107 : decode cX8_burn 107 = .ok (.goto (-76), 3) := dk_167 255 180 (dk_at dksX8_burn_4 12 rfl rfl)
theorem dX8_burn_110 : decode cX8_burn 110 = .ok (.iload_n 1, 1) := dk_27 (dk_at dksX8_burn_4 15 rfl rfl)
theorem dX8_burn_111 : decode cX8_burn 111 = .ok (.ifCond .ne 7, 3) := dk_154 0 7 (dk_at dksX8_burn_4 16 rfl rfl)
theorem dX8_burn_114 : decode cX8_burn 114 = .ok (.iload_n 2, 1) := dk_28 (dk_at dksX8_burn_4 19 rfl rfl)
theorem dX8_burn_115 : decode cX8_burn 115 = .ok (.goto 4, 3) := dk_167 0 4 (dk_at dksX8_burn_4 20 rfl rfl)
theorem dX8_burn_118 : decode cX8_burn 118 = .ok (.iload_n 3, 1) := dk_29 (dk_at dksX8_burn_4 23 rfl rfl)
theorem dX8_burn_119 : decode cX8_burn 119 = .ok (.ireturn, 1) := dk_172 (dk_at dksX8_burn_5 0 rfl rfl)
abbrev cX8_when : ByteArray := prog_20_method_86_code
def yX8_when : MethodName := ⟨RX8, "when", "(II)I"⟩
def dkwX8_when_4 : List UInt8 := [180, 0, 44, 27, 29, 79, 28, 154, 0, 8, 21, 4, 167, 0, 5, 21, 5, 172]
abbrev dktX8_when_4 : List UInt8 := dkwX8_when_4 ++ []
def dkwX8_when_3 : List UInt8 := [21, 5, 163, 0, 6, 167, 0, 11, 21, 6, 54, 4, 21, 7, 54, 5, 132, 6, 1, 167, 255, 214, 42]
abbrev dktX8_when_3 : List UInt8 := dkwX8_when_3 ++ dktX8_when_4
def dkwX8_when_2 : List UInt8 := [21, 6, 16, 60, 163, 0, 41, 42, 180, 0, 44, 27, 21, 6, 79, 42, 182, 1, 151, 54, 7, 21, 7]
abbrev dktX8_when_2 : List UInt8 := dkwX8_when_2 ++ dktX8_when_3
def dkwX8_when_1 : List UInt8 := [182, 1, 42, 172, 42, 182, 1, 148, 42, 180, 0, 44, 27, 46, 62, 2, 54, 4, 2, 54, 5, 3, 54, 6]
abbrev dktX8_when_1 : List UInt8 := dkwX8_when_1 ++ dktX8_when_2
def dkwX8_when_0 : List UInt8 := [42, 3, 181, 0, 150, 42, 27, 182, 1, 163, 153, 0, 12, 28, 155, 0, 8, 28, 4, 164, 0, 9, 42, 4]
abbrev dktX8_when_0 : List UInt8 := dkwX8_when_0 ++ dktX8_when_1
theorem dksX8_when_0 : cX8_when.data.toList.drop 0 = dktX8_when_0 := by decide +kernel
theorem dksX8_when_1 : cX8_when.data.toList.drop 24 = dktX8_when_1 := dk_seg dksX8_when_0 24 rfl rfl
theorem dksX8_when_2 : cX8_when.data.toList.drop 48 = dktX8_when_2 := dk_seg dksX8_when_1 24 rfl rfl
theorem dksX8_when_3 : cX8_when.data.toList.drop 71 = dktX8_when_3 := dk_seg dksX8_when_2 23 rfl rfl
theorem dksX8_when_4 : cX8_when.data.toList.drop 94 = dktX8_when_4 := dk_seg dksX8_when_3 23 rfl rfl
theorem dX8_when_0 : decode cX8_when 0 = .ok (.aload_n 0, 1) := dk_42 (dk_at dksX8_when_0 0 rfl rfl)
theorem dX8_when_1 : decode cX8_when 1 = .ok (.iconst 0, 1) := dk_3 (dk_at dksX8_when_0 1 rfl rfl)
theorem dX8_when_2 : decode cX8_when 2 = .ok (.putfield 150, 3) := dk_181 0 150 (dk_at dksX8_when_0 2 rfl rfl)
theorem dX8_when_5 : decode cX8_when 5 = .ok (.aload_n 0, 1) := dk_42 (dk_at dksX8_when_0 5 rfl rfl)
theorem dX8_when_6 : decode cX8_when 6 = .ok (.iload_n 1, 1) := dk_27 (dk_at dksX8_when_0 6 rfl rfl)
theorem dX8_when_7 : decode cX8_when 7 = .ok (.invokevirtual 419, 3) := dk_182 1 163 (dk_at dksX8_when_0 7 rfl rfl)
theorem dX8_when_10 : decode cX8_when 10 = .ok (.ifCond .eq 12, 3) := dk_153 0 12 (dk_at dksX8_when_0 10 rfl rfl)
theorem dX8_when_13 : decode cX8_when 13 = .ok (.iload_n 2, 1) := dk_28 (dk_at dksX8_when_0 13 rfl rfl)
theorem dX8_when_14 : decode cX8_when 14 = .ok (.ifCond .lt 8, 3) := dk_155 0 8 (dk_at dksX8_when_0 14 rfl rfl)
theorem dX8_when_17 : decode cX8_when 17 = .ok (.iload_n 2, 1) := dk_28 (dk_at dksX8_when_0 17 rfl rfl)
theorem dX8_when_18 : decode cX8_when 18 = .ok (.iconst 1, 1) := dk_4 (dk_at dksX8_when_0 18 rfl rfl)
theorem dX8_when_19 : decode cX8_when 19 = .ok (.if_icmp .le 9, 3) := dk_164 0 9 (dk_at dksX8_when_0 19 rfl rfl)
theorem dX8_when_22 : decode cX8_when 22 = .ok (.aload_n 0, 1) := dk_42 (dk_at dksX8_when_0 22 rfl rfl)
theorem dX8_when_23 : decode cX8_when 23 = .ok (.iconst 1, 1) := dk_4 (dk_at dksX8_when_0 23 rfl rfl)
theorem dX8_when_24 : decode cX8_when 24 = .ok (.invokevirtual 298, 3) := dk_182 1 42 (dk_at dksX8_when_1 0 rfl rfl)
theorem dX8_when_27 : decode cX8_when 27 = .ok (.ireturn, 1) := dk_172 (dk_at dksX8_when_1 3 rfl rfl)
theorem dX8_when_28 : decode cX8_when 28 = .ok (.aload_n 0, 1) := dk_42 (dk_at dksX8_when_1 4 rfl rfl)
theorem dX8_when_29 : decode cX8_when 29 = .ok (.invokevirtual 404, 3) := dk_182 1 148 (dk_at dksX8_when_1 5 rfl rfl)
theorem dX8_when_32 : decode cX8_when 32 = .ok (.aload_n 0, 1) := dk_42 (dk_at dksX8_when_1 8 rfl rfl)
theorem dX8_when_33 : decode cX8_when 33 = .ok (.getfield 44, 3) := dk_180 0 44 (dk_at dksX8_when_1 9 rfl rfl)
theorem dX8_when_36 : decode cX8_when 36 = .ok (.iload_n 1, 1) := dk_27 (dk_at dksX8_when_1 12 rfl rfl)
theorem dX8_when_37 : decode cX8_when 37 = .ok (.iaload, 1) := dk_46 (dk_at dksX8_when_1 13 rfl rfl)
theorem dX8_when_38 : decode cX8_when 38 = .ok (.istore_n 3, 1) := dk_62 (dk_at dksX8_when_1 14 rfl rfl)
theorem dX8_when_39 : decode cX8_when 39 = .ok (.iconst (-1), 1) := dk_2 (dk_at dksX8_when_1 15 rfl rfl)
theorem dX8_when_40 : decode cX8_when 40 = .ok (.istore 4, 2) := dk_54 4 (dk_at dksX8_when_1 16 rfl rfl)
theorem dX8_when_42 : decode cX8_when 42 = .ok (.iconst (-1), 1) := dk_2 (dk_at dksX8_when_1 18 rfl rfl)
theorem dX8_when_43 : decode cX8_when 43 = .ok (.istore 5, 2) := dk_54 5 (dk_at dksX8_when_1 19 rfl rfl)
theorem dX8_when_45 : decode cX8_when 45 = .ok (.iconst 0, 1) := dk_3 (dk_at dksX8_when_1 21 rfl rfl)
theorem dX8_when_46 : decode cX8_when 46 = .ok (.istore 6, 2) := dk_54 6 (dk_at dksX8_when_1 22 rfl rfl)
theorem dX8_when_48 : decode cX8_when 48 = .ok (.iload 6, 2) := dk_21 6 (dk_at dksX8_when_2 0 rfl rfl)
theorem dX8_when_50 : decode cX8_when 50 = .ok (.bipush 60, 2) := dk_16 60 (dk_at dksX8_when_2 2 rfl rfl)
theorem dX8_when_52 : decode cX8_when 52 = .ok (.if_icmp .gt 41, 3) := dk_163 0 41 (dk_at dksX8_when_2 4 rfl rfl)
theorem dX8_when_55 : decode cX8_when 55 = .ok (.aload_n 0, 1) := dk_42 (dk_at dksX8_when_2 7 rfl rfl)
theorem dX8_when_56 : decode cX8_when 56 = .ok (.getfield 44, 3) := dk_180 0 44 (dk_at dksX8_when_2 8 rfl rfl)
theorem dX8_when_59 : decode cX8_when 59 = .ok (.iload_n 1, 1) := dk_27 (dk_at dksX8_when_2 11 rfl rfl)
theorem dX8_when_60 : decode cX8_when 60 = .ok (.iload 6, 2) := dk_21 6 (dk_at dksX8_when_2 12 rfl rfl)
theorem dX8_when_62 : decode cX8_when 62 = .ok (.iastore, 1) := dk_79 (dk_at dksX8_when_2 14 rfl rfl)
theorem dX8_when_63 : decode cX8_when 63 = .ok (.aload_n 0, 1) := dk_42 (dk_at dksX8_when_2 15 rfl rfl)
theorem dX8_when_64 : decode cX8_when 64 = .ok (.invokevirtual 407, 3) := dk_182 1 151 (dk_at dksX8_when_2 16 rfl rfl)
theorem dX8_when_67 : decode cX8_when 67 = .ok (.istore 7, 2) := dk_54 7 (dk_at dksX8_when_2 19 rfl rfl)
theorem dX8_when_69 : decode cX8_when 69 = .ok (.iload 7, 2) := dk_21 7 (dk_at dksX8_when_2 21 rfl rfl)
theorem dX8_when_71 : decode cX8_when 71 = .ok (.iload 5, 2) := dk_21 5 (dk_at dksX8_when_3 0 rfl rfl)
theorem dX8_when_73 : decode cX8_when 73 = .ok (.if_icmp .gt 6, 3) := dk_163 0 6 (dk_at dksX8_when_3 2 rfl rfl)
theorem dX8_when_76 : decode cX8_when 76 = .ok (.goto 11, 3) := dk_167 0 11 (dk_at dksX8_when_3 5 rfl rfl)
theorem dX8_when_79 : decode cX8_when 79 = .ok (.iload 6, 2) := dk_21 6 (dk_at dksX8_when_3 8 rfl rfl)
theorem dX8_when_81 : decode cX8_when 81 = .ok (.istore 4, 2) := dk_54 4 (dk_at dksX8_when_3 10 rfl rfl)
theorem dX8_when_83 : decode cX8_when 83 = .ok (.iload 7, 2) := dk_21 7 (dk_at dksX8_when_3 12 rfl rfl)
theorem dX8_when_85 : decode cX8_when 85 = .ok (.istore 5, 2) := dk_54 5 (dk_at dksX8_when_3 14 rfl rfl)
theorem dX8_when_87 : decode cX8_when 87 = .ok (.iinc 6 1, 3) := dk_132 6 1 (dk_at dksX8_when_3 16 rfl rfl)
theorem dX8_when_90 : decode cX8_when 90 = .ok (.goto (-42), 3) := dk_167 255 214 (dk_at dksX8_when_3 19 rfl rfl)
theorem dX8_when_93 : decode cX8_when 93 = .ok (.aload_n 0, 1) := dk_42 (dk_at dksX8_when_3 22 rfl rfl)
theorem dX8_when_94 : decode cX8_when 94 = .ok (.getfield 44, 3) := dk_180 0 44 (dk_at dksX8_when_4 0 rfl rfl)
theorem dX8_when_97 : decode cX8_when 97 = .ok (.iload_n 1, 1) := dk_27 (dk_at dksX8_when_4 3 rfl rfl)
theorem dX8_when_98 : decode cX8_when 98 = .ok (.iload_n 3, 1) := dk_29 (dk_at dksX8_when_4 4 rfl rfl)
theorem dX8_when_99 : decode cX8_when 99 = .ok (.iastore, 1) := dk_79 (dk_at dksX8_when_4 5 rfl rfl)
theorem dX8_when_100 : decode cX8_when 100 = .ok (.iload_n 2, 1) := dk_28 (dk_at dksX8_when_4 6 rfl rfl)
theorem dX8_when_101 : decode cX8_when 101 = .ok (.ifCond .ne 8, 3) := dk_154 0 8 (dk_at dksX8_when_4 7 rfl rfl)
theorem dX8_when_104 : decode cX8_when 104 = .ok (.iload 4, 2) := dk_21 4 (dk_at dksX8_when_4 10 rfl rfl)
theorem dX8_when_106 : decode cX8_when 106 = .ok (.goto 5, 3) := dk_167 0 5 (dk_at dksX8_when_4 12 rfl rfl)
theorem dX8_when_109 : decode cX8_when 109 = .ok (.iload 5, 2) := dk_21 5 (dk_at dksX8_when_4 15 rfl rfl)
theorem dX8_when_111 : decode cX8_when 111 = .ok (.ireturn, 1) := dk_172 (dk_at dksX8_when_4 17 rfl rfl)
abbrev cX8_round : ByteArray := prog_20_method_87_code
def yX8_round : MethodName := ⟨RX8, "round", "(I)I"⟩
def dkwX8_round_1 : List UInt8 := [42, 27, 181, 0, 100, 42, 182, 1, 151, 28, 100, 172]
abbrev dktX8_round_1 : List UInt8 := dkwX8_round_1 ++ []
def dkwX8_round_0 : List UInt8 := [42, 3, 181, 0, 150, 42, 27, 182, 1, 163, 154, 0, 9, 42, 4, 182, 1, 42, 172, 42, 182, 1, 154, 61]
abbrev dktX8_round_0 : List UInt8 := dkwX8_round_0 ++ dktX8_round_1
theorem dksX8_round_0 : cX8_round.data.toList.drop 0 = dktX8_round_0 := by decide +kernel
theorem dksX8_round_1 : cX8_round.data.toList.drop 24 = dktX8_round_1 := dk_seg dksX8_round_0 24 rfl rfl
theorem dX8_round_0 : decode cX8_round 0 = .ok (.aload_n 0, 1) := dk_42 (dk_at dksX8_round_0 0 rfl rfl)
theorem dX8_round_1 : decode cX8_round 1 = .ok (.iconst 0, 1) := dk_3 (dk_at dksX8_round_0 1 rfl rfl)
theorem dX8_round_2 : decode cX8_round 2 = .ok (.putfield 150, 3) := dk_181 0 150 (dk_at dksX8_round_0 2 rfl rfl)
theorem dX8_round_5 : decode cX8_round 5 = .ok (.aload_n 0, 1) := dk_42 (dk_at dksX8_round_0 5 rfl rfl)
theorem dX8_round_6 : decode cX8_round 6 = .ok (.iload_n 1, 1) := dk_27 (dk_at dksX8_round_0 6 rfl rfl)
theorem dX8_round_7 : decode cX8_round 7 = .ok (.invokevirtual 419, 3) := dk_182 1 163 (dk_at dksX8_round_0 7 rfl rfl)
theorem dX8_round_10 : decode cX8_round 10 = .ok (.ifCond .ne 9, 3) := dk_154 0 9 (dk_at dksX8_round_0 10 rfl rfl)
theorem dX8_round_13 : decode cX8_round 13 = .ok (.aload_n 0, 1) := dk_42 (dk_at dksX8_round_0 13 rfl rfl)
theorem dX8_round_14 : decode cX8_round 14 = .ok (.iconst 1, 1) := dk_4 (dk_at dksX8_round_0 14 rfl rfl)
theorem dX8_round_15 : decode cX8_round 15 = .ok (.invokevirtual 298, 3) := dk_182 1 42 (dk_at dksX8_round_0 15 rfl rfl)
theorem dX8_round_18 : decode cX8_round 18 = .ok (.ireturn, 1) := dk_172 (dk_at dksX8_round_0 18 rfl rfl)
theorem dX8_round_19 : decode cX8_round 19 = .ok (.aload_n 0, 1) := dk_42 (dk_at dksX8_round_0 19 rfl rfl)
theorem dX8_round_20 : decode cX8_round 20 = .ok (.invokevirtual 410, 3) := dk_182 1 154 (dk_at dksX8_round_0 20 rfl rfl)
theorem dX8_round_23 : decode cX8_round 23 = .ok (.istore_n 2, 1) := dk_61 (dk_at dksX8_round_0 23 rfl rfl)
theorem dX8_round_24 : decode cX8_round 24 = .ok (.aload_n 0, 1) := dk_42 (dk_at dksX8_round_1 0 rfl rfl)
theorem dX8_round_25 : decode cX8_round 25 = .ok (.iload_n 1, 1) := dk_27 (dk_at dksX8_round_1 1 rfl rfl)
theorem dX8_round_26 : decode cX8_round 26 = .ok (.putfield 100, 3) := dk_181 0 100 (dk_at dksX8_round_1 2 rfl rfl)
theorem dX8_round_29 : decode cX8_round 29 = .ok (.aload_n 0, 1) := dk_42 (dk_at dksX8_round_1 5 rfl rfl)
theorem dX8_round_30 : decode cX8_round 30 = .ok (.invokevirtual 407, 3) := dk_182 1 151 (dk_at dksX8_round_1 6 rfl rfl)
theorem dX8_round_33 : decode cX8_round 33 = .ok (.iload_n 2, 1) := dk_28 (dk_at dksX8_round_1 9 rfl rfl)
theorem dX8_round_34 : decode cX8_round 34 = .ok (.isub, 1) := dk_100 (dk_at dksX8_round_1 10 rfl rfl)
theorem dX8_round_35 : decode cX8_round 35 = .ok (.ireturn, 1) := dk_172 (dk_at dksX8_round_1 11 rfl rfl)
abbrev cX8_free : ByteArray := prog_20_method_88_code
def yX8_free : MethodName := ⟨RX8, "free", "(II)I"⟩
def dkwX8_free_7 : List UInt8 := [180, 0, 34, 3, 46, 108, 167, 0, 11, 29, 42, 180, 0, 34, 3, 46, 112, 172]
abbrev dktX8_free_7 : List UInt8 := dkwX8_free_7 ++ []
def dkwX8_free_6 : List UInt8 := [89, 180, 1, 58, 4, 100, 181, 1, 58, 29, 2, 160, 0, 7, 2, 167, 0, 26, 28, 154, 0, 14, 29, 42]
abbrev dktX8_free_6 : List UInt8 := dkwX8_free_6 ++ dktX8_free_7
def dkwX8_free_5 : List UInt8 := [180, 0, 117, 27, 46, 18, 186, 161, 0, 8, 21, 4, 167, 0, 4, 2, 62, 132, 4, 1, 167, 255, 179, 42]
abbrev dktX8_free_5 : List UInt8 := dkwX8_free_5 ++ dktX8_free_6
def dkwX8_free_4 : List UInt8 := [180, 0, 34, 3, 46, 112, 21, 4, 42, 180, 0, 34, 3, 46, 108, 184, 1, 187, 42, 27, 182, 1, 145, 42]
abbrev dktX8_free_4 : List UInt8 := dkwX8_free_4 ++ dktX8_free_5
def dkwX8_free_3 : List UInt8 := [104, 162, 0, 69, 29, 2, 160, 0, 64, 42, 180, 0, 73, 42, 180, 1, 58, 4, 100, 27, 21, 4, 42]
abbrev dktX8_free_3 : List UInt8 := dkwX8_free_3 ++ dktX8_free_4
def dkwX8_free_2 : List UInt8 := [89, 180, 1, 58, 4, 96, 181, 1, 58, 2, 62, 3, 54, 4, 21, 4, 42, 180, 0, 34, 3, 46, 16, 61]
abbrev dktX8_free_2 : List UInt8 := dkwX8_free_2 ++ dktX8_free_3
def dkwX8_free_1 : List UInt8 := [182, 1, 42, 172, 42, 182, 1, 154, 87, 42, 180, 0, 117, 27, 46, 18, 186, 161, 0, 6, 16, 254, 172, 42]
abbrev dktX8_free_1 : List UInt8 := dkwX8_free_1 ++ dktX8_free_2
def dkwX8_free_0 : List UInt8 := [42, 3, 181, 0, 150, 42, 27, 182, 1, 168, 153, 0, 12, 28, 155, 0, 8, 28, 4, 164, 0, 9, 42, 4]
abbrev dktX8_free_0 : List UInt8 := dkwX8_free_0 ++ dktX8_free_1
theorem dksX8_free_0 : cX8_free.data.toList.drop 0 = dktX8_free_0 := by decide +kernel
theorem dksX8_free_1 : cX8_free.data.toList.drop 24 = dktX8_free_1 := dk_seg dksX8_free_0 24 rfl rfl
theorem dksX8_free_2 : cX8_free.data.toList.drop 48 = dktX8_free_2 := dk_seg dksX8_free_1 24 rfl rfl
theorem dksX8_free_3 : cX8_free.data.toList.drop 72 = dktX8_free_3 := dk_seg dksX8_free_2 24 rfl rfl
theorem dksX8_free_4 : cX8_free.data.toList.drop 95 = dktX8_free_4 := dk_seg dksX8_free_3 23 rfl rfl
theorem dksX8_free_5 : cX8_free.data.toList.drop 119 = dktX8_free_5 := dk_seg dksX8_free_4 24 rfl rfl
theorem dksX8_free_6 : cX8_free.data.toList.drop 143 = dktX8_free_6 := dk_seg dksX8_free_5 24 rfl rfl
theorem dksX8_free_7 : cX8_free.data.toList.drop 167 = dktX8_free_7 := dk_seg dksX8_free_6 24 rfl rfl
theorem dX8_free_0 : decode cX8_free 0 = .ok (.aload_n 0, 1) := dk_42 (dk_at dksX8_free_0 0 rfl rfl)
theorem dX8_free_1 : decode cX8_free 1 = .ok (.iconst 0, 1) := dk_3 (dk_at dksX8_free_0 1 rfl rfl)
theorem dX8_free_2 : decode cX8_free 2 = .ok (.putfield 150, 3) := dk_181 0 150 (dk_at dksX8_free_0 2 rfl rfl)
theorem dX8_free_5 : decode cX8_free 5 = .ok (.aload_n 0, 1) := dk_42 (dk_at dksX8_free_0 5 rfl rfl)
theorem dX8_free_6 : decode cX8_free 6 = .ok (.iload_n 1, 1) := dk_27 (dk_at dksX8_free_0 6 rfl rfl)
theorem dX8_free_7 : decode cX8_free 7 = .ok (.invokevirtual 424, 3) := dk_182 1 168 (dk_at dksX8_free_0 7 rfl rfl)
theorem dX8_free_10 : decode cX8_free 10 = .ok (.ifCond .eq 12, 3) := dk_153 0 12 (dk_at dksX8_free_0 10 rfl rfl)
theorem dX8_free_13 : decode cX8_free 13 = .ok (.iload_n 2, 1) := dk_28 (dk_at dksX8_free_0 13 rfl rfl)
theorem dX8_free_14 : decode cX8_free 14 = .ok (.ifCond .lt 8, 3) := dk_155 0 8 (dk_at dksX8_free_0 14 rfl rfl)
theorem dX8_free_17 : decode cX8_free 17 = .ok (.iload_n 2, 1) := dk_28 (dk_at dksX8_free_0 17 rfl rfl)
theorem dX8_free_18 : decode cX8_free 18 = .ok (.iconst 1, 1) := dk_4 (dk_at dksX8_free_0 18 rfl rfl)
theorem dX8_free_19 : decode cX8_free 19 = .ok (.if_icmp .le 9, 3) := dk_164 0 9 (dk_at dksX8_free_0 19 rfl rfl)
theorem dX8_free_22 : decode cX8_free 22 = .ok (.aload_n 0, 1) := dk_42 (dk_at dksX8_free_0 22 rfl rfl)
theorem dX8_free_23 : decode cX8_free 23 = .ok (.iconst 1, 1) := dk_4 (dk_at dksX8_free_0 23 rfl rfl)
theorem dX8_free_24 : decode cX8_free 24 = .ok (.invokevirtual 298, 3) := dk_182 1 42 (dk_at dksX8_free_1 0 rfl rfl)
theorem dX8_free_27 : decode cX8_free 27 = .ok (.ireturn, 1) := dk_172 (dk_at dksX8_free_1 3 rfl rfl)
theorem dX8_free_28 : decode cX8_free 28 = .ok (.aload_n 0, 1) := dk_42 (dk_at dksX8_free_1 4 rfl rfl)
theorem dX8_free_29 : decode cX8_free 29 = .ok (.invokevirtual 410, 3) := dk_182 1 154 (dk_at dksX8_free_1 5 rfl rfl)
theorem dX8_free_32 : decode cX8_free 32 = .ok (.pop, 1) := dk_87 (dk_at dksX8_free_1 8 rfl rfl)
theorem dX8_free_33 : decode cX8_free 33 = .ok (.aload_n 0, 1) := dk_42 (dk_at dksX8_free_1 9 rfl rfl)
theorem dX8_free_34 : decode cX8_free 34 = .ok (.getfield 117, 3) := dk_180 0 117 (dk_at dksX8_free_1 10 rfl rfl)
theorem dX8_free_37 : decode cX8_free 37 = .ok (.iload_n 1, 1) := dk_27 (dk_at dksX8_free_1 13 rfl rfl)
theorem dX8_free_38 : decode cX8_free 38 = .ok (.iaload, 1) := dk_46 (dk_at dksX8_free_1 14 rfl rfl)
theorem dX8_free_39 : decode cX8_free 39 = .ok (.ldc 186, 2) := dk_18 186 (dk_at dksX8_free_1 15 rfl rfl)
theorem dX8_free_41 : decode cX8_free 41 = .ok (.if_icmp .lt 6, 3) := dk_161 0 6 (dk_at dksX8_free_1 17 rfl rfl)
theorem dX8_free_44 : decode cX8_free 44 = .ok (.bipush (-2), 2) := dk_16 254 (dk_at dksX8_free_1 20 rfl rfl)
theorem dX8_free_46 : decode cX8_free 46 = .ok (.ireturn, 1) := dk_172 (dk_at dksX8_free_1 22 rfl rfl)
theorem dX8_free_47 : decode cX8_free 47 = .ok (.aload_n 0, 1) := dk_42 (dk_at dksX8_free_1 23 rfl rfl)
theorem dX8_free_48 : decode cX8_free 48 = .ok (.dup, 1) := dk_89 (dk_at dksX8_free_2 0 rfl rfl)
theorem dX8_free_49 : decode cX8_free 49 = .ok (.getfield 314, 3) := dk_180 1 58 (dk_at dksX8_free_2 1 rfl rfl)
theorem dX8_free_52 : decode cX8_free 52 = .ok (.iconst 1, 1) := dk_4 (dk_at dksX8_free_2 4 rfl rfl)
theorem dX8_free_53 : decode cX8_free 53 = .ok (.iadd, 1) := dk_96 (dk_at dksX8_free_2 5 rfl rfl)
theorem dX8_free_54 : decode cX8_free 54 = .ok (.putfield 314, 3) := dk_181 1 58 (dk_at dksX8_free_2 6 rfl rfl)
theorem dX8_free_57 : decode cX8_free 57 = .ok (.iconst (-1), 1) := dk_2 (dk_at dksX8_free_2 9 rfl rfl)
theorem dX8_free_58 : decode cX8_free 58 = .ok (.istore_n 3, 1) := dk_62 (dk_at dksX8_free_2 10 rfl rfl)
theorem dX8_free_59 : decode cX8_free 59 = .ok (.iconst 0, 1) := dk_3 (dk_at dksX8_free_2 11 rfl rfl)
theorem dX8_free_60 : decode cX8_free 60 = .ok (.istore 4, 2) := dk_54 4 (dk_at dksX8_free_2 12 rfl rfl)
theorem dX8_free_62 : decode cX8_free 62 = .ok (.iload 4, 2) := dk_21 4 (dk_at dksX8_free_2 14 rfl rfl)
theorem dX8_free_64 : decode cX8_free 64 = .ok (.aload_n 0, 1) := dk_42 (dk_at dksX8_free_2 16 rfl rfl)
theorem dX8_free_65 : decode cX8_free 65 = .ok (.getfield 34, 3) := dk_180 0 34 (dk_at dksX8_free_2 17 rfl rfl)
theorem dX8_free_68 : decode cX8_free 68 = .ok (.iconst 0, 1) := dk_3 (dk_at dksX8_free_2 20 rfl rfl)
theorem dX8_free_69 : decode cX8_free 69 = .ok (.iaload, 1) := dk_46 (dk_at dksX8_free_2 21 rfl rfl)
theorem dX8_free_70 : decode cX8_free 70 = .ok (.bipush 61, 2) := dk_16 61 (dk_at dksX8_free_2 22 rfl rfl)
theorem dX8_free_72 : decode cX8_free 72 = .ok (.imul, 1) := dk_104 (dk_at dksX8_free_3 0 rfl rfl)
theorem dX8_free_73 : decode cX8_free 73 = .ok (.if_icmp .ge 69, 3) := dk_162 0 69 (dk_at dksX8_free_3 1 rfl rfl)
theorem dX8_free_76 : decode cX8_free 76 = .ok (.iload_n 3, 1) := dk_29 (dk_at dksX8_free_3 4 rfl rfl)
theorem dX8_free_77 : decode cX8_free 77 = .ok (.iconst (-1), 1) := dk_2 (dk_at dksX8_free_3 5 rfl rfl)
theorem dX8_free_78 : decode cX8_free 78 = .ok (.if_icmp .ne 64, 3) := dk_160 0 64 (dk_at dksX8_free_3 6 rfl rfl)
theorem dX8_free_81 : decode cX8_free 81 = .ok (.aload_n 0, 1) := dk_42 (dk_at dksX8_free_3 9 rfl rfl)
theorem dX8_free_82 : decode cX8_free 82 = .ok (.getfield 73, 3) := dk_180 0 73 (dk_at dksX8_free_3 10 rfl rfl)
theorem dX8_free_85 : decode cX8_free 85 = .ok (.aload_n 0, 1) := dk_42 (dk_at dksX8_free_3 13 rfl rfl)
theorem dX8_free_86 : decode cX8_free 86 = .ok (.getfield 314, 3) := dk_180 1 58 (dk_at dksX8_free_3 14 rfl rfl)
theorem dX8_free_89 : decode cX8_free 89 = .ok (.iconst 1, 1) := dk_4 (dk_at dksX8_free_3 17 rfl rfl)
theorem dX8_free_90 : decode cX8_free 90 = .ok (.isub, 1) := dk_100 (dk_at dksX8_free_3 18 rfl rfl)
theorem dX8_free_91 : decode cX8_free 91 = .ok (.iload_n 1, 1) := dk_27 (dk_at dksX8_free_3 19 rfl rfl)
theorem dX8_free_92 : decode cX8_free 92 = .ok (.iload 4, 2) := dk_21 4 (dk_at dksX8_free_3 20 rfl rfl)
theorem dX8_free_94 : decode cX8_free 94 = .ok (.aload_n 0, 1) := dk_42 (dk_at dksX8_free_3 22 rfl rfl)
theorem dX8_free_95 : decode cX8_free 95 = .ok (.getfield 34, 3) := dk_180 0 34 (dk_at dksX8_free_4 0 rfl rfl)
theorem dX8_free_98 : decode cX8_free 98 = .ok (.iconst 0, 1) := dk_3 (dk_at dksX8_free_4 3 rfl rfl)
theorem dX8_free_99 : decode cX8_free 99 = .ok (.iaload, 1) := dk_46 (dk_at dksX8_free_4 4 rfl rfl)
theorem dX8_free_100 : decode cX8_free 100 = .ok (.irem, 1) := dk_112 (dk_at dksX8_free_4 5 rfl rfl)
theorem dX8_free_101 : decode cX8_free 101 = .ok (.iload 4, 2) := dk_21 4 (dk_at dksX8_free_4 6 rfl rfl)
theorem dX8_free_103 : decode cX8_free 103 = .ok (.aload_n 0, 1) := dk_42 (dk_at dksX8_free_4 8 rfl rfl)
theorem dX8_free_104 : decode cX8_free 104 = .ok (.getfield 34, 3) := dk_180 0 34 (dk_at dksX8_free_4 9 rfl rfl)
theorem dX8_free_107 : decode cX8_free 107 = .ok (.iconst 0, 1) := dk_3 (dk_at dksX8_free_4 12 rfl rfl)
theorem dX8_free_108 : decode cX8_free 108 = .ok (.iaload, 1) := dk_46 (dk_at dksX8_free_4 13 rfl rfl)
theorem dX8_free_109 : decode cX8_free 109 = .ok (.idiv, 1) := dk_108 (dk_at dksX8_free_4 14 rfl rfl)
theorem dX8_free_110 : decode cX8_free 110 = .ok (.invokestatic 443, 3) := dk_184 1 187 (dk_at dksX8_free_4 15 rfl rfl)
theorem dX8_free_113 : decode cX8_free 113 = .ok (.aload_n 0, 1) := dk_42 (dk_at dksX8_free_4 18 rfl rfl)
theorem dX8_free_114 : decode cX8_free 114 = .ok (.iload_n 1, 1) := dk_27 (dk_at dksX8_free_4 19 rfl rfl)
theorem dX8_free_115 : decode cX8_free 115 = .ok (.invokevirtual 401, 3) := dk_182 1 145 (dk_at dksX8_free_4 20 rfl rfl)
theorem dX8_free_118 : decode cX8_free 118 = .ok (.aload_n 0, 1) := dk_42 (dk_at dksX8_free_4 23 rfl rfl)
theorem dX8_free_119 : decode cX8_free 119 = .ok (.getfield 117, 3) := dk_180 0 117 (dk_at dksX8_free_5 0 rfl rfl)
theorem dX8_free_122 : decode cX8_free 122 = .ok (.iload_n 1, 1) := dk_27 (dk_at dksX8_free_5 3 rfl rfl)
theorem dX8_free_123 : decode cX8_free 123 = .ok (.iaload, 1) := dk_46 (dk_at dksX8_free_5 4 rfl rfl)
theorem dX8_free_124 : decode cX8_free 124 = .ok (.ldc 186, 2) := dk_18 186 (dk_at dksX8_free_5 5 rfl rfl)
theorem dX8_free_126 : decode cX8_free 126 = .ok (.if_icmp .lt 8, 3) := dk_161 0 8 (dk_at dksX8_free_5 7 rfl rfl)
theorem dX8_free_129 : decode cX8_free 129 = .ok (.iload 4, 2) := dk_21 4 (dk_at dksX8_free_5 10 rfl rfl)
theorem dX8_free_131 : decode cX8_free 131 = .ok (.goto 4, 3) := dk_167 0 4 (dk_at dksX8_free_5 12 rfl rfl)
theorem dX8_free_134 : decode cX8_free 134 = .ok (.iconst (-1), 1) := dk_2 (dk_at dksX8_free_5 15 rfl rfl)
theorem dX8_free_135 : decode cX8_free 135 = .ok (.istore_n 3, 1) := dk_62 (dk_at dksX8_free_5 16 rfl rfl)
theorem dX8_free_136 : decode cX8_free 136 = .ok (.iinc 4 1, 3) := dk_132 4 1 (dk_at dksX8_free_5 17 rfl rfl)
theorem dX8_free_139 : decode cX8_free 139 = .ok (.goto (-77), 3) := dk_167 255 179 (dk_at dksX8_free_5 20 rfl rfl)
theorem dX8_free_142 : decode cX8_free 142 = .ok (.aload_n 0, 1) := dk_42 (dk_at dksX8_free_5 23 rfl rfl)
theorem dX8_free_143 : decode cX8_free 143 = .ok (.dup, 1) := dk_89 (dk_at dksX8_free_6 0 rfl rfl)
theorem dX8_free_144 : decode cX8_free 144 = .ok (.getfield 314, 3) := dk_180 1 58 (dk_at dksX8_free_6 1 rfl rfl)
theorem dX8_free_147 : decode cX8_free 147 = .ok (.iconst 1, 1) := dk_4 (dk_at dksX8_free_6 4 rfl rfl)
theorem dX8_free_148 : decode cX8_free 148 = .ok (.isub, 1) := dk_100 (dk_at dksX8_free_6 5 rfl rfl)
theorem dX8_free_149 : decode cX8_free 149 = .ok (.putfield 314, 3) := dk_181 1 58 (dk_at dksX8_free_6 6 rfl rfl)
theorem dX8_free_152 : decode cX8_free 152 = .ok (.iload_n 3, 1) := dk_29 (dk_at dksX8_free_6 9 rfl rfl)
theorem dX8_free_153 : decode cX8_free 153 = .ok (.iconst (-1), 1) := dk_2 (dk_at dksX8_free_6 10 rfl rfl)
theorem dX8_free_154 : decode cX8_free 154 = .ok (.if_icmp .ne 7, 3) := dk_160 0 7 (dk_at dksX8_free_6 11 rfl rfl)
theorem dX8_free_157 : decode cX8_free 157 = .ok (.iconst (-1), 1) := dk_2 (dk_at dksX8_free_6 14 rfl rfl)
theorem dX8_free_158 : decode cX8_free 158 = .ok (.goto 26, 3) := dk_167 0 26 (dk_at dksX8_free_6 15 rfl rfl)
theorem dX8_free_161 : decode cX8_free 161 = .ok (.iload_n 2, 1) := dk_28 (dk_at dksX8_free_6 18 rfl rfl)
theorem dX8_free_162 : decode cX8_free 162 = .ok (.ifCond .ne 14, 3) := dk_154 0 14 (dk_at dksX8_free_6 19 rfl rfl)
theorem dX8_free_165 : decode cX8_free 165 = .ok (.iload_n 3, 1) := dk_29 (dk_at dksX8_free_6 22 rfl rfl)
theorem dX8_free_166 : decode cX8_free 166 = .ok (.aload_n 0, 1) := dk_42 (dk_at dksX8_free_6 23 rfl rfl)
theorem dX8_free_167 : decode cX8_free 167 = .ok (.getfield 34, 3) := dk_180 0 34 (dk_at dksX8_free_7 0 rfl rfl)
theorem dX8_free_170 : decode cX8_free 170 = .ok (.iconst 0, 1) := dk_3 (dk_at dksX8_free_7 3 rfl rfl)
theorem dX8_free_171 : decode cX8_free 171 = .ok (.iaload, 1) := dk_46 (dk_at dksX8_free_7 4 rfl rfl)
theorem dX8_free_172 : decode cX8_free 172 = .ok (.idiv, 1) := dk_108 (dk_at dksX8_free_7 5 rfl rfl)
theorem dX8_free_173 : decode cX8_free 173 = .ok (.goto 11, 3) := dk_167 0 11 (dk_at dksX8_free_7 6 rfl rfl)
theorem dX8_free_176 : decode cX8_free 176 = .ok (.iload_n 3, 1) := dk_29 (dk_at dksX8_free_7 9 rfl rfl)
theorem dX8_free_177 : decode cX8_free 177 = .ok (.aload_n 0, 1) := dk_42 (dk_at dksX8_free_7 10 rfl rfl)
theorem dX8_free_178 : decode cX8_free 178 = .ok (.getfield 34, 3) := dk_180 0 34 (dk_at dksX8_free_7 11 rfl rfl)
theorem dX8_free_181 : decode cX8_free 181 = .ok (.iconst 0, 1) := dk_3 (dk_at dksX8_free_7 14 rfl rfl)
theorem dX8_free_182 : decode cX8_free 182 = .ok (.iaload, 1) := dk_46 (dk_at dksX8_free_7 15 rfl rfl)
theorem dX8_free_183 : decode cX8_free 183 = .ok (.irem, 1) := dk_112 (dk_at dksX8_free_7 16 rfl rfl)
theorem dX8_free_184 : decode cX8_free 184 = .ok (.ireturn, 1) := dk_172 (dk_at dksX8_free_7 17 rfl rfl)
abbrev cX8_mercy : ByteArray := prog_20_method_89_code
def yX8_mercy : MethodName := ⟨RX8, "mercy", "(I)I"⟩
def dkwX8_mercy_4 : List UInt8 := [29, 167, 0, 4, 28, 61, 132, 3, 1, 167, 255, 186, 28, 172]
abbrev dktX8_mercy_4 : List UInt8 := dkwX8_mercy_4 ++ []
def dkwX8_mercy_3 : List UInt8 := [167, 0, 30, 42, 29, 181, 1, 84, 42, 27, 182, 1, 145, 42, 180, 0, 117, 27, 46, 18, 186, 161, 0, 7]
abbrev dktX8_mercy_3 : List UInt8 := dkwX8_mercy_3 ++ dktX8_mercy_4
def dkwX8_mercy_2 : List UInt8 := [180, 1, 87, 126, 154, 0, 49, 28, 2, 159, 0, 17, 29, 184, 1, 196, 28, 184, 1, 196, 161, 0, 6]
abbrev dktX8_mercy_2 : List UInt8 := dkwX8_mercy_2 ++ dktX8_mercy_3
def dkwX8_mercy_1 : List UInt8 := [42, 27, 181, 0, 103, 2, 61, 3, 62, 29, 4, 42, 180, 0, 34, 7, 46, 120, 162, 0, 64, 29, 42]
abbrev dktX8_mercy_1 : List UInt8 := dkwX8_mercy_1 ++ dktX8_mercy_2
def dkwX8_mercy_0 : List UInt8 := [42, 3, 181, 0, 150, 42, 27, 182, 1, 168, 154, 0, 9, 42, 4, 182, 1, 42, 172, 42, 182, 1, 154, 87]
abbrev dktX8_mercy_0 : List UInt8 := dkwX8_mercy_0 ++ dktX8_mercy_1
theorem dksX8_mercy_0 : cX8_mercy.data.toList.drop 0 = dktX8_mercy_0 := by decide +kernel
theorem dksX8_mercy_1 : cX8_mercy.data.toList.drop 24 = dktX8_mercy_1 := dk_seg dksX8_mercy_0 24 rfl rfl
theorem dksX8_mercy_2 : cX8_mercy.data.toList.drop 47 = dktX8_mercy_2 := dk_seg dksX8_mercy_1 23 rfl rfl
theorem dksX8_mercy_3 : cX8_mercy.data.toList.drop 70 = dktX8_mercy_3 := dk_seg dksX8_mercy_2 23 rfl rfl
theorem dksX8_mercy_4 : cX8_mercy.data.toList.drop 94 = dktX8_mercy_4 := dk_seg dksX8_mercy_3 24 rfl rfl
theorem dX8_mercy_0 : decode cX8_mercy 0 = .ok (.aload_n 0, 1) := dk_42 (dk_at dksX8_mercy_0 0 rfl rfl)
theorem dX8_mercy_1 : decode cX8_mercy 1 = .ok (.iconst 0, 1) := dk_3 (dk_at dksX8_mercy_0 1 rfl rfl)
theorem dX8_mercy_2 : decode cX8_mercy 2 = .ok (.putfield 150, 3) := dk_181 0 150 (dk_at dksX8_mercy_0 2 rfl rfl)
theorem dX8_mercy_5 : decode cX8_mercy 5 = .ok (.aload_n 0, 1) := dk_42 (dk_at dksX8_mercy_0 5 rfl rfl)
theorem dX8_mercy_6 : decode cX8_mercy 6 = .ok (.iload_n 1, 1) := dk_27 (dk_at dksX8_mercy_0 6 rfl rfl)
theorem dX8_mercy_7 : decode cX8_mercy 7 = .ok (.invokevirtual 424, 3) := dk_182 1 168 (dk_at dksX8_mercy_0 7 rfl rfl)
theorem dX8_mercy_10 : decode cX8_mercy 10 = .ok (.ifCond .ne 9, 3) := dk_154 0 9 (dk_at dksX8_mercy_0 10 rfl rfl)
theorem dX8_mercy_13 : decode cX8_mercy 13 = .ok (.aload_n 0, 1) := dk_42 (dk_at dksX8_mercy_0 13 rfl rfl)
theorem dX8_mercy_14 : decode cX8_mercy 14 = .ok (.iconst 1, 1) := dk_4 (dk_at dksX8_mercy_0 14 rfl rfl)
theorem dX8_mercy_15 : decode cX8_mercy 15 = .ok (.invokevirtual 298, 3) := dk_182 1 42 (dk_at dksX8_mercy_0 15 rfl rfl)
theorem dX8_mercy_18 : decode cX8_mercy 18 = .ok (.ireturn, 1) := dk_172 (dk_at dksX8_mercy_0 18 rfl rfl)
theorem dX8_mercy_19 : decode cX8_mercy 19 = .ok (.aload_n 0, 1) := dk_42 (dk_at dksX8_mercy_0 19 rfl rfl)
theorem dX8_mercy_20 : decode cX8_mercy 20 = .ok (.invokevirtual 410, 3) := dk_182 1 154 (dk_at dksX8_mercy_0 20 rfl rfl)
theorem dX8_mercy_23 : decode cX8_mercy 23 = .ok (.pop, 1) := dk_87 (dk_at dksX8_mercy_0 23 rfl rfl)
theorem dX8_mercy_24 : decode cX8_mercy 24 = .ok (.aload_n 0, 1) := dk_42 (dk_at dksX8_mercy_1 0 rfl rfl)
theorem dX8_mercy_25 : decode cX8_mercy 25 = .ok (.iload_n 1, 1) := dk_27 (dk_at dksX8_mercy_1 1 rfl rfl)
theorem dX8_mercy_26 : decode cX8_mercy 26 = .ok (.putfield 103, 3) := dk_181 0 103 (dk_at dksX8_mercy_1 2 rfl rfl)
theorem dX8_mercy_29 : decode cX8_mercy 29 = .ok (.iconst (-1), 1) := dk_2 (dk_at dksX8_mercy_1 5 rfl rfl)
theorem dX8_mercy_30 : decode cX8_mercy 30 = .ok (.istore_n 2, 1) := dk_61 (dk_at dksX8_mercy_1 6 rfl rfl)
theorem dX8_mercy_31 : decode cX8_mercy 31 = .ok (.iconst 0, 1) := dk_3 (dk_at dksX8_mercy_1 7 rfl rfl)
theorem dX8_mercy_32 : decode cX8_mercy 32 = .ok (.istore_n 3, 1) := dk_62 (dk_at dksX8_mercy_1 8 rfl rfl)
theorem dX8_mercy_33 : decode cX8_mercy 33 = .ok (.iload_n 3, 1) := dk_29 (dk_at dksX8_mercy_1 9 rfl rfl)
theorem dX8_mercy_34 : decode cX8_mercy 34 = .ok (.iconst 1, 1) := dk_4 (dk_at dksX8_mercy_1 10 rfl rfl)
theorem dX8_mercy_35 : decode cX8_mercy 35 = .ok (.aload_n 0, 1) := dk_42 (dk_at dksX8_mercy_1 11 rfl rfl)
theorem dX8_mercy_36 : decode cX8_mercy 36 = .ok (.getfield 34, 3) := dk_180 0 34 (dk_at dksX8_mercy_1 12 rfl rfl)
theorem dX8_mercy_39 : decode cX8_mercy 39 = .ok (.iconst 4, 1) := dk_7 (dk_at dksX8_mercy_1 15 rfl rfl)
theorem dX8_mercy_40 : decode cX8_mercy 40 = .ok (.iaload, 1) := dk_46 (dk_at dksX8_mercy_1 16 rfl rfl)
theorem dX8_mercy_41 : decode cX8_mercy 41 = .ok (.ishl, 1) := dk_120 (dk_at dksX8_mercy_1 17 rfl rfl)
theorem dX8_mercy_42 : decode cX8_mercy 42 = .ok (.if_icmp .ge 64, 3) := dk_162 0 64 (dk_at dksX8_mercy_1 18 rfl rfl)
theorem dX8_mercy_45 : decode cX8_mercy 45 = .ok (.iload_n 3, 1) := dk_29 (dk_at dksX8_mercy_1 21 rfl rfl)
theorem dX8_mercy_46 : decode cX8_mercy 46 = .ok (.aload_n 0, 1) := dk_42 (dk_at dksX8_mercy_1 22 rfl rfl)
theorem dX8_mercy_47 : decode cX8_mercy 47 = .ok (.getfield 343, 3) := dk_180 1 87 (dk_at dksX8_mercy_2 0 rfl rfl)
theorem dX8_mercy_50 : decode cX8_mercy 50 = .ok (.iand, 1) := dk_126 (dk_at dksX8_mercy_2 3 rfl rfl)
theorem dX8_mercy_51 : decode cX8_mercy 51 = .ok (.ifCond .ne 49, 3) := dk_154 0 49 (dk_at dksX8_mercy_2 4 rfl rfl)
theorem dX8_mercy_54 : decode cX8_mercy 54 = .ok (.iload_n 2, 1) := dk_28 (dk_at dksX8_mercy_2 7 rfl rfl)
theorem dX8_mercy_55 : decode cX8_mercy 55 = .ok (.iconst (-1), 1) := dk_2 (dk_at dksX8_mercy_2 8 rfl rfl)
theorem dX8_mercy_56 : decode cX8_mercy 56 = .ok (.if_icmp .eq 17, 3) := dk_159 0 17 (dk_at dksX8_mercy_2 9 rfl rfl)
theorem dX8_mercy_59 : decode cX8_mercy 59 = .ok (.iload_n 3, 1) := dk_29 (dk_at dksX8_mercy_2 12 rfl rfl)
theorem dX8_mercy_60 : decode cX8_mercy 60 = .ok (.invokestatic 452, 3) := dk_184 1 196 (dk_at dksX8_mercy_2 13 rfl rfl)
theorem dX8_mercy_63 : decode cX8_mercy 63 = .ok (.iload_n 2, 1) := dk_28 (dk_at dksX8_mercy_2 16 rfl rfl)
theorem dX8_mercy_64 : decode cX8_mercy 64 = .ok (.invokestatic 452, 3) := dk_184 1 196 (dk_at dksX8_mercy_2 17 rfl rfl)
theorem dX8_mercy_67 : decode cX8_mercy 67 = .ok (.if_icmp .lt 6, 3) := dk_161 0 6 (dk_at dksX8_mercy_2 20 rfl rfl)
theorem dX8_mercy_70 : decode cX8_mercy 70 = .ok (.goto 30, 3) := dk_167 0 30 (dk_at dksX8_mercy_3 0 rfl rfl)
theorem dX8_mercy_73 : decode cX8_mercy 73 = .ok (.aload_n 0, 1) := dk_42 (dk_at dksX8_mercy_3 3 rfl rfl)
theorem dX8_mercy_74 : decode cX8_mercy 74 = .ok (.iload_n 3, 1) := dk_29 (dk_at dksX8_mercy_3 4 rfl rfl)
theorem dX8_mercy_75 : decode cX8_mercy 75 = .ok (.putfield 340, 3) := dk_181 1 84 (dk_at dksX8_mercy_3 5 rfl rfl)
theorem dX8_mercy_78 : decode cX8_mercy 78 = .ok (.aload_n 0, 1) := dk_42 (dk_at dksX8_mercy_3 8 rfl rfl)
theorem dX8_mercy_79 : decode cX8_mercy 79 = .ok (.iload_n 1, 1) := dk_27 (dk_at dksX8_mercy_3 9 rfl rfl)
theorem dX8_mercy_80 : decode cX8_mercy 80 = .ok (.invokevirtual 401, 3) := dk_182 1 145 (dk_at dksX8_mercy_3 10 rfl rfl)
theorem dX8_mercy_83 : decode cX8_mercy 83 = .ok (.aload_n 0, 1) := dk_42 (dk_at dksX8_mercy_3 13 rfl rfl)
theorem dX8_mercy_84 : decode cX8_mercy 84 = .ok (.getfield 117, 3) := dk_180 0 117 (dk_at dksX8_mercy_3 14 rfl rfl)
theorem dX8_mercy_87 : decode cX8_mercy 87 = .ok (.iload_n 1, 1) := dk_27 (dk_at dksX8_mercy_3 17 rfl rfl)
theorem dX8_mercy_88 : decode cX8_mercy 88 = .ok (.iaload, 1) := dk_46 (dk_at dksX8_mercy_3 18 rfl rfl)
theorem dX8_mercy_89 : decode cX8_mercy 89 = .ok (.ldc 186, 2) := dk_18 186 (dk_at dksX8_mercy_3 19 rfl rfl)
theorem dX8_mercy_91 : decode cX8_mercy 91 = .ok (.if_icmp .lt 7, 3) := dk_161 0 7 (dk_at dksX8_mercy_3 21 rfl rfl)
theorem dX8_mercy_94 : decode cX8_mercy 94 = .ok (.iload_n 3, 1) := dk_29 (dk_at dksX8_mercy_4 0 rfl rfl)
theorem dX8_mercy_95 : decode cX8_mercy 95 = .ok (.goto 4, 3) := dk_167 0 4 (dk_at dksX8_mercy_4 1 rfl rfl)
theorem dX8_mercy_98 : decode cX8_mercy 98 = .ok (.iload_n 2, 1) := dk_28 (dk_at dksX8_mercy_4 4 rfl rfl)
theorem dX8_mercy_99 : decode cX8_mercy 99 = .ok (.istore_n 2, 1) := dk_61 (dk_at dksX8_mercy_4 5 rfl rfl)
theorem dX8_mercy_100 : decode cX8_mercy 100 = .ok (.iinc 3 1, 3) := dk_132 3 1 (dk_at dksX8_mercy_4 6 rfl rfl)
theorem dX8_mercy_103 : decode cX8_mercy 103 = .ok (.goto (-70), 3) := dk_167 255 186 (dk_at dksX8_mercy_4 9 rfl rfl)
theorem dX8_mercy_106 : decode cX8_mercy 106 = .ok (.iload_n 2, 1) := dk_28 (dk_at dksX8_mercy_4 12 rfl rfl)
theorem dX8_mercy_107 : decode cX8_mercy 107 = .ok (.ireturn, 1) := dk_172 (dk_at dksX8_mercy_4 13 rfl rfl)
abbrev cX8_bitsOf : ByteArray := prog_20_method_65_code
def yX8_bitsOf : MethodName := ⟨RX8, "bitsOf", "(I)I"⟩
def dkwX8_bitsOf_0 : List UInt8 := [3, 60, 26, 61, 28, 153, 0, 15, 132, 1, 1, 28, 28, 4, 100, 126, 61, 167, 255, 243, 27, 172]
abbrev dktX8_bitsOf_0 : List UInt8 := dkwX8_bitsOf_0 ++ []
theorem dksX8_bitsOf_0 : cX8_bitsOf.data.toList.drop 0 = dktX8_bitsOf_0 := by decide +kernel
theorem dX8_bitsOf_0 : decode cX8_bitsOf 0 = .ok (.iconst 0, 1) := dk_3 (dk_at dksX8_bitsOf_0 0 rfl rfl)
theorem dX8_bitsOf_1 : decode cX8_bitsOf 1 = .ok (.istore_n 1, 1) := dk_60 (dk_at dksX8_bitsOf_0 1 rfl rfl)
theorem dX8_bitsOf_2 : decode cX8_bitsOf 2 = .ok (.iload_n 0, 1) := dk_26 (dk_at dksX8_bitsOf_0 2 rfl rfl)
theorem dX8_bitsOf_3 : decode cX8_bitsOf 3 = .ok (.istore_n 2, 1) := dk_61 (dk_at dksX8_bitsOf_0 3 rfl rfl)
theorem dX8_bitsOf_4 : decode cX8_bitsOf 4 = .ok (.iload_n 2, 1) := dk_28 (dk_at dksX8_bitsOf_0 4 rfl rfl)
theorem dX8_bitsOf_5 : decode cX8_bitsOf 5 = .ok (.ifCond .eq 15, 3) := dk_153 0 15 (dk_at dksX8_bitsOf_0 5 rfl rfl)
theorem dX8_bitsOf_8 : decode cX8_bitsOf 8 = .ok (.iinc 1 1, 3) := dk_132 1 1 (dk_at dksX8_bitsOf_0 8 rfl rfl)
theorem dX8_bitsOf_11 : decode cX8_bitsOf 11 = .ok (.iload_n 2, 1) := dk_28 (dk_at dksX8_bitsOf_0 11 rfl rfl)
theorem dX8_bitsOf_12 : decode cX8_bitsOf 12 = .ok (.iload_n 2, 1) := dk_28 (dk_at dksX8_bitsOf_0 12 rfl rfl)
theorem dX8_bitsOf_13 : decode cX8_bitsOf 13 = .ok (.iconst 1, 1) := dk_4 (dk_at dksX8_bitsOf_0 13 rfl rfl)
theorem dX8_bitsOf_14 : decode cX8_bitsOf 14 = .ok (.isub, 1) := dk_100 (dk_at dksX8_bitsOf_0 14 rfl rfl)
theorem dX8_bitsOf_15 : decode cX8_bitsOf 15 = .ok (.iand, 1) := dk_126 (dk_at dksX8_bitsOf_0 15 rfl rfl)
theorem dX8_bitsOf_16 : decode cX8_bitsOf 16 = .ok (.istore_n 2, 1) := dk_61 (dk_at dksX8_bitsOf_0 16 rfl rfl)
theorem dX8_bitsOf_17 : decode cX8_bitsOf 17 = .ok (.goto (-13), 3) := dk_167 255 243 (dk_at dksX8_bitsOf_0 17 rfl rfl)
theorem dX8_bitsOf_20 : decode cX8_bitsOf 20 = .ok (.iload_n 1, 1) := dk_27 (dk_at dksX8_bitsOf_0 20 rfl rfl)
theorem dX8_bitsOf_21 : decode cX8_bitsOf 21 = .ok (.ireturn, 1) := dk_172 (dk_at dksX8_bitsOf_0 21 rfl rfl)
abbrev cX8_deaf : ByteArray := prog_20_method_90_code
def yX8_deaf : MethodName := ⟨RX8, "deaf", "(I)I"⟩
def dkwX8_deaf_1 : List UInt8 := [42, 89, 180, 1, 87, 4, 27, 120, 130, 181, 1, 87, 42, 182, 1, 142, 172]
abbrev dktX8_deaf_1 : List UInt8 := dkwX8_deaf_1 ++ []
def dkwX8_deaf_0 : List UInt8 := [42, 3, 181, 0, 150, 42, 27, 182, 1, 163, 154, 0, 9, 42, 4, 182, 1, 42, 172, 42, 182, 1, 154, 87]
abbrev dktX8_deaf_0 : List UInt8 := dkwX8_deaf_0 ++ dktX8_deaf_1
theorem dksX8_deaf_0 : cX8_deaf.data.toList.drop 0 = dktX8_deaf_0 := by decide +kernel
theorem dksX8_deaf_1 : cX8_deaf.data.toList.drop 24 = dktX8_deaf_1 := dk_seg dksX8_deaf_0 24 rfl rfl
theorem dX8_deaf_0 : decode cX8_deaf 0 = .ok (.aload_n 0, 1) := dk_42 (dk_at dksX8_deaf_0 0 rfl rfl)
theorem dX8_deaf_1 : decode cX8_deaf 1 = .ok (.iconst 0, 1) := dk_3 (dk_at dksX8_deaf_0 1 rfl rfl)
theorem dX8_deaf_2 : decode cX8_deaf 2 = .ok (.putfield 150, 3) := dk_181 0 150 (dk_at dksX8_deaf_0 2 rfl rfl)
theorem dX8_deaf_5 : decode cX8_deaf 5 = .ok (.aload_n 0, 1) := dk_42 (dk_at dksX8_deaf_0 5 rfl rfl)
theorem dX8_deaf_6 : decode cX8_deaf 6 = .ok (.iload_n 1, 1) := dk_27 (dk_at dksX8_deaf_0 6 rfl rfl)
theorem dX8_deaf_7 : decode cX8_deaf 7 = .ok (.invokevirtual 419, 3) := dk_182 1 163 (dk_at dksX8_deaf_0 7 rfl rfl)
theorem dX8_deaf_10 : decode cX8_deaf 10 = .ok (.ifCond .ne 9, 3) := dk_154 0 9 (dk_at dksX8_deaf_0 10 rfl rfl)
theorem dX8_deaf_13 : decode cX8_deaf 13 = .ok (.aload_n 0, 1) := dk_42 (dk_at dksX8_deaf_0 13 rfl rfl)
theorem dX8_deaf_14 : decode cX8_deaf 14 = .ok (.iconst 1, 1) := dk_4 (dk_at dksX8_deaf_0 14 rfl rfl)
theorem dX8_deaf_15 : decode cX8_deaf 15 = .ok (.invokevirtual 298, 3) := dk_182 1 42 (dk_at dksX8_deaf_0 15 rfl rfl)
theorem dX8_deaf_18 : decode cX8_deaf 18 = .ok (.ireturn, 1) := dk_172 (dk_at dksX8_deaf_0 18 rfl rfl)
theorem dX8_deaf_19 : decode cX8_deaf 19 = .ok (.aload_n 0, 1) := dk_42 (dk_at dksX8_deaf_0 19 rfl rfl)
theorem dX8_deaf_20 : decode cX8_deaf 20 = .ok (.invokevirtual 410, 3) := dk_182 1 154 (dk_at dksX8_deaf_0 20 rfl rfl)
theorem dX8_deaf_23 : decode cX8_deaf 23 = .ok (.pop, 1) := dk_87 (dk_at dksX8_deaf_0 23 rfl rfl)
theorem dX8_deaf_24 : decode cX8_deaf 24 = .ok (.aload_n 0, 1) := dk_42 (dk_at dksX8_deaf_1 0 rfl rfl)
theorem dX8_deaf_25 : decode cX8_deaf 25 = .ok (.dup, 1) := dk_89 (dk_at dksX8_deaf_1 1 rfl rfl)
theorem dX8_deaf_26 : decode cX8_deaf 26 = .ok (.getfield 343, 3) := dk_180 1 87 (dk_at dksX8_deaf_1 2 rfl rfl)
theorem dX8_deaf_29 : decode cX8_deaf 29 = .ok (.iconst 1, 1) := dk_4 (dk_at dksX8_deaf_1 5 rfl rfl)
theorem dX8_deaf_30 : decode cX8_deaf 30 = .ok (.iload_n 1, 1) := dk_27 (dk_at dksX8_deaf_1 6 rfl rfl)
theorem dX8_deaf_31 : decode cX8_deaf 31 = .ok (.ishl, 1) := dk_120 (dk_at dksX8_deaf_1 7 rfl rfl)
theorem dX8_deaf_32 : decode cX8_deaf 32 = .ok (.ixor, 1) := dk_130 (dk_at dksX8_deaf_1 8 rfl rfl)
theorem dX8_deaf_33 : decode cX8_deaf 33 = .ok (.putfield 343, 3) := dk_181 1 87 (dk_at dksX8_deaf_1 9 rfl rfl)
theorem dX8_deaf_36 : decode cX8_deaf 36 = .ok (.aload_n 0, 1) := dk_42 (dk_at dksX8_deaf_1 12 rfl rfl)
theorem dX8_deaf_37 : decode cX8_deaf 37 = .ok (.invokevirtual 398, 3) := dk_182 1 142 (dk_at dksX8_deaf_1 13 rfl rfl)
theorem dX8_deaf_40 : decode cX8_deaf 40 = .ok (.ireturn, 1) := dk_172 (dk_at dksX8_deaf_1 16 rfl rfl)
abbrev cX8_soonest : ByteArray := prog_20_method_91_code
def yX8_soonest : MethodName := ⟨RX8, "soonest", "(I)I"⟩
def dkwX8_soonest_3 : List UInt8 := [62, 132, 4, 1, 167, 255, 215, 27, 154, 0, 10, 28, 184, 1, 160, 167, 0, 4, 29, 172]
abbrev dktX8_soonest_3 : List UInt8 := dkwX8_soonest_3 ++ []
def dkwX8_soonest_2 : List UInt8 := [180, 0, 117, 21, 4, 46, 184, 0, 187, 61, 29, 42, 180, 0, 117, 21, 4, 46, 184, 1, 160, 184, 1, 122]
abbrev dktX8_soonest_2 : List UInt8 := dkwX8_soonest_2 ++ dktX8_soonest_3
def dkwX8_soonest_1 : List UInt8 := [87, 18, 186, 61, 2, 62, 3, 54, 4, 21, 4, 42, 180, 0, 34, 8, 46, 162, 0, 36, 28, 42]
abbrev dktX8_soonest_1 : List UInt8 := dkwX8_soonest_1 ++ dktX8_soonest_2
def dkwX8_soonest_0 : List UInt8 := [42, 3, 181, 0, 150, 27, 155, 0, 8, 27, 4, 164, 0, 9, 42, 4, 182, 1, 42, 172, 42, 182, 1, 154]
abbrev dktX8_soonest_0 : List UInt8 := dkwX8_soonest_0 ++ dktX8_soonest_1
theorem dksX8_soonest_0 : cX8_soonest.data.toList.drop 0 = dktX8_soonest_0 := by decide +kernel
theorem dksX8_soonest_1 : cX8_soonest.data.toList.drop 24 = dktX8_soonest_1 := dk_seg dksX8_soonest_0 24 rfl rfl
theorem dksX8_soonest_2 : cX8_soonest.data.toList.drop 46 = dktX8_soonest_2 := dk_seg dksX8_soonest_1 22 rfl rfl
theorem dksX8_soonest_3 : cX8_soonest.data.toList.drop 70 = dktX8_soonest_3 := dk_seg dksX8_soonest_2 24 rfl rfl
theorem dX8_soonest_0 : decode cX8_soonest 0 = .ok (.aload_n 0, 1) := dk_42 (dk_at dksX8_soonest_0 0 rfl rfl)
theorem dX8_soonest_1 : decode cX8_soonest 1 = .ok (.iconst 0, 1) := dk_3 (dk_at dksX8_soonest_0 1 rfl rfl)
theorem dX8_soonest_2 : decode cX8_soonest 2 = .ok (.putfield 150, 3) := dk_181 0 150 (dk_at dksX8_soonest_0 2 rfl rfl)
theorem dX8_soonest_5 : decode cX8_soonest 5 = .ok (.iload_n 1, 1) := dk_27 (dk_at dksX8_soonest_0 5 rfl rfl)
theorem dX8_soonest_6 : decode cX8_soonest 6 = .ok (.ifCond .lt 8, 3) := dk_155 0 8 (dk_at dksX8_soonest_0 6 rfl rfl)
theorem dX8_soonest_9 : decode cX8_soonest 9 = .ok (.iload_n 1, 1) := dk_27 (dk_at dksX8_soonest_0 9 rfl rfl)
theorem dX8_soonest_10 : decode cX8_soonest 10 = .ok (.iconst 1, 1) := dk_4 (dk_at dksX8_soonest_0 10 rfl rfl)
theorem dX8_soonest_11 : decode cX8_soonest 11 = .ok (.if_icmp .le 9, 3) := dk_164 0 9 (dk_at dksX8_soonest_0 11 rfl rfl)
theorem dX8_soonest_14 : decode cX8_soonest 14 = .ok (.aload_n 0, 1) := dk_42 (dk_at dksX8_soonest_0 14 rfl rfl)
theorem dX8_soonest_15 : decode cX8_soonest 15 = .ok (.iconst 1, 1) := dk_4 (dk_at dksX8_soonest_0 15 rfl rfl)
theorem dX8_soonest_16 : decode cX8_soonest 16 = .ok (.invokevirtual 298, 3) := dk_182 1 42 (dk_at dksX8_soonest_0 16 rfl rfl)
theorem dX8_soonest_19 : decode cX8_soonest 19 = .ok (.ireturn, 1) := dk_172 (dk_at dksX8_soonest_0 19 rfl rfl)
theorem dX8_soonest_20 : decode cX8_soonest 20 = .ok (.aload_n 0, 1) := dk_42 (dk_at dksX8_soonest_0 20 rfl rfl)
theorem dX8_soonest_21 : decode cX8_soonest 21 = .ok (.invokevirtual 410, 3) := dk_182 1 154 (dk_at dksX8_soonest_0 21 rfl rfl)
theorem dX8_soonest_24 : decode cX8_soonest 24 = .ok (.pop, 1) := dk_87 (dk_at dksX8_soonest_1 0 rfl rfl)
theorem dX8_soonest_25 : decode cX8_soonest 25 = .ok (.ldc 186, 2) := dk_18 186 (dk_at dksX8_soonest_1 1 rfl rfl)
theorem dX8_soonest_27 : decode cX8_soonest 27 = .ok (.istore_n 2, 1) := dk_61 (dk_at dksX8_soonest_1 3 rfl rfl)
theorem dX8_soonest_28 : decode cX8_soonest 28 = .ok (.iconst (-1), 1) := dk_2 (dk_at dksX8_soonest_1 4 rfl rfl)
theorem dX8_soonest_29 : decode cX8_soonest 29 = .ok (.istore_n 3, 1) := dk_62 (dk_at dksX8_soonest_1 5 rfl rfl)
theorem dX8_soonest_30 : decode cX8_soonest 30 = .ok (.iconst 0, 1) := dk_3 (dk_at dksX8_soonest_1 6 rfl rfl)
theorem dX8_soonest_31 : decode cX8_soonest 31 = .ok (.istore 4, 2) := dk_54 4 (dk_at dksX8_soonest_1 7 rfl rfl)
theorem dX8_soonest_33 : decode cX8_soonest 33 = .ok (.iload 4, 2) := dk_21 4 (dk_at dksX8_soonest_1 9 rfl rfl)
theorem dX8_soonest_35 : decode cX8_soonest 35 = .ok (.aload_n 0, 1) := dk_42 (dk_at dksX8_soonest_1 11 rfl rfl)
theorem dX8_soonest_36 : decode cX8_soonest 36 = .ok (.getfield 34, 3) := dk_180 0 34 (dk_at dksX8_soonest_1 12 rfl rfl)
theorem dX8_soonest_39 : decode cX8_soonest 39 = .ok (.iconst 5, 1) := dk_8 (dk_at dksX8_soonest_1 15 rfl rfl)
theorem dX8_soonest_40 : decode cX8_soonest 40 = .ok (.iaload, 1) := dk_46 (dk_at dksX8_soonest_1 16 rfl rfl)
theorem dX8_soonest_41 : decode cX8_soonest 41 = .ok (.if_icmp .ge 36, 3) := dk_162 0 36 (dk_at dksX8_soonest_1 17 rfl rfl)
theorem dX8_soonest_44 : decode cX8_soonest 44 = .ok (.iload_n 2, 1) := dk_28 (dk_at dksX8_soonest_1 20 rfl rfl)
theorem dX8_soonest_45 : decode cX8_soonest 45 = .ok (.aload_n 0, 1) := dk_42 (dk_at dksX8_soonest_1 21 rfl rfl)
theorem dX8_soonest_46 : decode cX8_soonest 46 = .ok (.getfield 117, 3) := dk_180 0 117 (dk_at dksX8_soonest_2 0 rfl rfl)
theorem dX8_soonest_49 : decode cX8_soonest 49 = .ok (.iload 4, 2) := dk_21 4 (dk_at dksX8_soonest_2 3 rfl rfl)
theorem dX8_soonest_51 : decode cX8_soonest 51 = .ok (.iaload, 1) := dk_46 (dk_at dksX8_soonest_2 5 rfl rfl)
theorem dX8_soonest_52 : decode cX8_soonest 52 = .ok (.invokestatic 187, 3) := dk_184 0 187 (dk_at dksX8_soonest_2 6 rfl rfl)
theorem dX8_soonest_55 : decode cX8_soonest 55 = .ok (.istore_n 2, 1) := dk_61 (dk_at dksX8_soonest_2 9 rfl rfl)
theorem dX8_soonest_56 : decode cX8_soonest 56 = .ok (.iload_n 3, 1) := dk_29 (dk_at dksX8_soonest_2 10 rfl rfl)
theorem dX8_soonest_57 : decode cX8_soonest 57 = .ok (.aload_n 0, 1) := dk_42 (dk_at dksX8_soonest_2 11 rfl rfl)
theorem dX8_soonest_58 : decode cX8_soonest 58 = .ok (.getfield 117, 3) := dk_180 0 117 (dk_at dksX8_soonest_2 12 rfl rfl)
theorem dX8_soonest_61 : decode cX8_soonest 61 = .ok (.iload 4, 2) := dk_21 4 (dk_at dksX8_soonest_2 15 rfl rfl)
theorem dX8_soonest_63 : decode cX8_soonest 63 = .ok (.iaload, 1) := dk_46 (dk_at dksX8_soonest_2 17 rfl rfl)
theorem dX8_soonest_64 : decode cX8_soonest 64 = .ok (.invokestatic 416, 3) := dk_184 1 160 (dk_at dksX8_soonest_2 18 rfl rfl)
theorem dX8_soonest_67 : decode cX8_soonest 67 = .ok (.invokestatic 378, 3) := dk_184 1 122 (dk_at dksX8_soonest_2 21 rfl rfl)
theorem dX8_soonest_70 : decode cX8_soonest 70 = .ok (.istore_n 3, 1) := dk_62 (dk_at dksX8_soonest_3 0 rfl rfl)
theorem dX8_soonest_71 : decode cX8_soonest 71 = .ok (.iinc 4 1, 3) := dk_132 4 1 (dk_at dksX8_soonest_3 1 rfl rfl)
theorem dX8_soonest_74 : decode cX8_soonest 74 = .ok (.goto (-41), 3) := dk_167 255 215 (dk_at dksX8_soonest_3 4 rfl rfl)
theorem dX8_soonest_77 : decode cX8_soonest 77 = .ok (.iload_n 1, 1) := dk_27 (dk_at dksX8_soonest_3 7 rfl rfl)
theorem dX8_soonest_78 : decode cX8_soonest 78 = .ok (.ifCond .ne 10, 3) := dk_154 0 10 (dk_at dksX8_soonest_3 8 rfl rfl)
theorem dX8_soonest_81 : decode cX8_soonest 81 = .ok (.iload_n 2, 1) := dk_28 (dk_at dksX8_soonest_3 11 rfl rfl)
theorem dX8_soonest_82 : decode cX8_soonest 82 = .ok (.invokestatic 416, 3) := dk_184 1 160 (dk_at dksX8_soonest_3 12 rfl rfl)
theorem dX8_soonest_85 : decode cX8_soonest 85 = .ok (.goto 4, 3) := dk_167 0 4 (dk_at dksX8_soonest_3 15 rfl rfl)
theorem dX8_soonest_88 : decode cX8_soonest 88 = .ok (.iload_n 3, 1) := dk_29 (dk_at dksX8_soonest_3 18 rfl rfl)
theorem dX8_soonest_89 : decode cX8_soonest 89 = .ok (.ireturn, 1) := dk_172 (dk_at dksX8_soonest_3 19 rfl rfl)
abbrev cX8_see : ByteArray := prog_20_method_92_code
def yX8_see : MethodName := ⟨RX8, "see", "(IIZ)I"⟩
def dkwX8_see_3 : List UInt8 := [153, 0, 7, 4, 167, 0, 4, 3, 79, 42, 89, 180, 1, 70, 4, 96, 181, 1, 70, 42, 180, 1, 70, 172]
abbrev dktX8_see_3 : List UInt8 := dkwX8_see_3 ++ []
def dkwX8_see_2 : List UInt8 := [180, 1, 70, 27, 79, 42, 180, 0, 126, 42, 180, 1, 70, 28, 79, 42, 180, 0, 129, 42, 180, 1, 70, 29]
abbrev dktX8_see_2 : List UInt8 := dkwX8_see_2 ++ dktX8_see_3
def dkwX8_see_1 : List UInt8 := [182, 1, 42, 172, 42, 180, 1, 70, 16, 8, 160, 0, 9, 42, 5, 182, 1, 179, 172, 42, 180, 0, 123, 42]
abbrev dktX8_see_1 : List UInt8 := dkwX8_see_1 ++ dktX8_see_2
def dkwX8_see_0 : List UInt8 := [42, 3, 181, 0, 150, 42, 27, 182, 1, 168, 153, 0, 11, 42, 28, 182, 1, 163, 154, 0, 9, 42, 4]
abbrev dktX8_see_0 : List UInt8 := dkwX8_see_0 ++ dktX8_see_1
theorem dksX8_see_0 : cX8_see.data.toList.drop 0 = dktX8_see_0 := by decide +kernel
theorem dksX8_see_1 : cX8_see.data.toList.drop 23 = dktX8_see_1 := dk_seg dksX8_see_0 23 rfl rfl
theorem dksX8_see_2 : cX8_see.data.toList.drop 47 = dktX8_see_2 := dk_seg dksX8_see_1 24 rfl rfl
theorem dksX8_see_3 : cX8_see.data.toList.drop 71 = dktX8_see_3 := dk_seg dksX8_see_2 24 rfl rfl
theorem dX8_see_0 : decode cX8_see 0 = .ok (.aload_n 0, 1) := dk_42 (dk_at dksX8_see_0 0 rfl rfl)
theorem dX8_see_1 : decode cX8_see 1 = .ok (.iconst 0, 1) := dk_3 (dk_at dksX8_see_0 1 rfl rfl)
theorem dX8_see_2 : decode cX8_see 2 = .ok (.putfield 150, 3) := dk_181 0 150 (dk_at dksX8_see_0 2 rfl rfl)
theorem dX8_see_5 : decode cX8_see 5 = .ok (.aload_n 0, 1) := dk_42 (dk_at dksX8_see_0 5 rfl rfl)
theorem dX8_see_6 : decode cX8_see 6 = .ok (.iload_n 1, 1) := dk_27 (dk_at dksX8_see_0 6 rfl rfl)
theorem dX8_see_7 : decode cX8_see 7 = .ok (.invokevirtual 424, 3) := dk_182 1 168 (dk_at dksX8_see_0 7 rfl rfl)
theorem dX8_see_10 : decode cX8_see 10 = .ok (.ifCond .eq 11, 3) := dk_153 0 11 (dk_at dksX8_see_0 10 rfl rfl)
theorem dX8_see_13 : decode cX8_see 13 = .ok (.aload_n 0, 1) := dk_42 (dk_at dksX8_see_0 13 rfl rfl)
theorem dX8_see_14 : decode cX8_see 14 = .ok (.iload_n 2, 1) := dk_28 (dk_at dksX8_see_0 14 rfl rfl)
theorem dX8_see_15 : decode cX8_see 15 = .ok (.invokevirtual 419, 3) := dk_182 1 163 (dk_at dksX8_see_0 15 rfl rfl)
theorem dX8_see_18 : decode cX8_see 18 = .ok (.ifCond .ne 9, 3) := dk_154 0 9 (dk_at dksX8_see_0 18 rfl rfl)
theorem dX8_see_21 : decode cX8_see 21 = .ok (.aload_n 0, 1) := dk_42 (dk_at dksX8_see_0 21 rfl rfl)
theorem dX8_see_22 : decode cX8_see 22 = .ok (.iconst 1, 1) := dk_4 (dk_at dksX8_see_0 22 rfl rfl)
theorem dX8_see_23 : decode cX8_see 23 = .ok (.invokevirtual 298, 3) := dk_182 1 42 (dk_at dksX8_see_1 0 rfl rfl)
theorem dX8_see_26 : decode cX8_see 26 = .ok (.ireturn, 1) := dk_172 (dk_at dksX8_see_1 3 rfl rfl)
theorem dX8_see_27 : decode cX8_see 27 = .ok (.aload_n 0, 1) := dk_42 (dk_at dksX8_see_1 4 rfl rfl)
theorem dX8_see_28 : decode cX8_see 28 = .ok (.getfield 326, 3) := dk_180 1 70 (dk_at dksX8_see_1 5 rfl rfl)
theorem dX8_see_31 : decode cX8_see 31 = .ok (.bipush 8, 2) := dk_16 8 (dk_at dksX8_see_1 8 rfl rfl)
theorem dX8_see_33 : decode cX8_see 33 = .ok (.if_icmp .ne 9, 3) := dk_160 0 9 (dk_at dksX8_see_1 10 rfl rfl)
theorem dX8_see_36 : decode cX8_see 36 = .ok (.aload_n 0, 1) := dk_42 (dk_at dksX8_see_1 13 rfl rfl)
theorem dX8_see_37 : decode cX8_see 37 = .ok (.iconst 2, 1) := dk_5 (dk_at dksX8_see_1 14 rfl rfl)
theorem dX8_see_38 : decode cX8_see 38 = .ok (.invokevirtual 435, 3) := dk_182 1 179 (dk_at dksX8_see_1 15 rfl rfl)
theorem dX8_see_41 : decode cX8_see 41 = .ok (.ireturn, 1) := dk_172 (dk_at dksX8_see_1 18 rfl rfl)
theorem dX8_see_42 : decode cX8_see 42 = .ok (.aload_n 0, 1) := dk_42 (dk_at dksX8_see_1 19 rfl rfl)
theorem dX8_see_43 : decode cX8_see 43 = .ok (.getfield 123, 3) := dk_180 0 123 (dk_at dksX8_see_1 20 rfl rfl)
theorem dX8_see_46 : decode cX8_see 46 = .ok (.aload_n 0, 1) := dk_42 (dk_at dksX8_see_1 23 rfl rfl)
theorem dX8_see_47 : decode cX8_see 47 = .ok (.getfield 326, 3) := dk_180 1 70 (dk_at dksX8_see_2 0 rfl rfl)
theorem dX8_see_50 : decode cX8_see 50 = .ok (.iload_n 1, 1) := dk_27 (dk_at dksX8_see_2 3 rfl rfl)
theorem dX8_see_51 : decode cX8_see 51 = .ok (.iastore, 1) := dk_79 (dk_at dksX8_see_2 4 rfl rfl)
theorem dX8_see_52 : decode cX8_see 52 = .ok (.aload_n 0, 1) := dk_42 (dk_at dksX8_see_2 5 rfl rfl)
theorem dX8_see_53 : decode cX8_see 53 = .ok (.getfield 126, 3) := dk_180 0 126 (dk_at dksX8_see_2 6 rfl rfl)
theorem dX8_see_56 : decode cX8_see 56 = .ok (.aload_n 0, 1) := dk_42 (dk_at dksX8_see_2 9 rfl rfl)
theorem dX8_see_57 : decode cX8_see 57 = .ok (.getfield 326, 3) := dk_180 1 70 (dk_at dksX8_see_2 10 rfl rfl)
theorem dX8_see_60 : decode cX8_see 60 = .ok (.iload_n 2, 1) := dk_28 (dk_at dksX8_see_2 13 rfl rfl)
theorem dX8_see_61 : decode cX8_see 61 = .ok (.iastore, 1) := dk_79 (dk_at dksX8_see_2 14 rfl rfl)
theorem dX8_see_62 : decode cX8_see 62 = .ok (.aload_n 0, 1) := dk_42 (dk_at dksX8_see_2 15 rfl rfl)
theorem dX8_see_63 : decode cX8_see 63 = .ok (.getfield 129, 3) := dk_180 0 129 (dk_at dksX8_see_2 16 rfl rfl)
theorem dX8_see_66 : decode cX8_see 66 = .ok (.aload_n 0, 1) := dk_42 (dk_at dksX8_see_2 19 rfl rfl)
theorem dX8_see_67 : decode cX8_see 67 = .ok (.getfield 326, 3) := dk_180 1 70 (dk_at dksX8_see_2 20 rfl rfl)
theorem dX8_see_70 : decode cX8_see 70 = .ok (.iload_n 3, 1) := dk_29 (dk_at dksX8_see_2 23 rfl rfl)
theorem dX8_see_71 : decode cX8_see 71 = .ok (.ifCond .eq 7, 3) := dk_153 0 7 (dk_at dksX8_see_3 0 rfl rfl)
theorem dX8_see_74 : decode cX8_see 74 = .ok (.iconst 1, 1) := dk_4 (dk_at dksX8_see_3 3 rfl rfl)
theorem dX8_see_75 : decode cX8_see 75 = .ok (.goto 4, 3) := dk_167 0 4 (dk_at dksX8_see_3 4 rfl rfl)
theorem dX8_see_78 : decode cX8_see 78 = .ok (.iconst 0, 1) := dk_3 (dk_at dksX8_see_3 7 rfl rfl)
theorem dX8_see_79 : decode cX8_see 79 = .ok (.iastore, 1) := dk_79 (dk_at dksX8_see_3 8 rfl rfl)
theorem dX8_see_80 : decode cX8_see 80 = .ok (.aload_n 0, 1) := dk_42 (dk_at dksX8_see_3 9 rfl rfl)
theorem dX8_see_81 : decode cX8_see 81 = .ok (.dup, 1) := dk_89 (dk_at dksX8_see_3 10 rfl rfl)
theorem dX8_see_82 : decode cX8_see 82 = .ok (.getfield 326, 3) := dk_180 1 70 (dk_at dksX8_see_3 11 rfl rfl)
theorem dX8_see_85 : decode cX8_see 85 = .ok (.iconst 1, 1) := dk_4 (dk_at dksX8_see_3 14 rfl rfl)
theorem dX8_see_86 : decode cX8_see 86 = .ok (.iadd, 1) := dk_96 (dk_at dksX8_see_3 15 rfl rfl)
theorem dX8_see_87 : decode cX8_see 87 = .ok (.putfield 326, 3) := dk_181 1 70 (dk_at dksX8_see_3 16 rfl rfl)
theorem dX8_see_90 : decode cX8_see 90 = .ok (.aload_n 0, 1) := dk_42 (dk_at dksX8_see_3 19 rfl rfl)
theorem dX8_see_91 : decode cX8_see 91 = .ok (.getfield 326, 3) := dk_180 1 70 (dk_at dksX8_see_3 20 rfl rfl)
theorem dX8_see_94 : decode cX8_see 94 = .ok (.ireturn, 1) := dk_172 (dk_at dksX8_see_3 23 rfl rfl)
abbrev cX8_forget : ByteArray := prog_20_method_93_code
def yX8_forget : MethodName := ⟨RX8, "forget", "()I"⟩
def dkwX8_forget_1 : List UInt8 := [42, 180, 1, 70, 172]
abbrev dktX8_forget_1 : List UInt8 := dkwX8_forget_1 ++ []
def dkwX8_forget_0 : List UInt8 := [42, 3, 181, 0, 150, 42, 180, 1, 70, 154, 0, 5, 2, 172, 42, 89, 180, 1, 70, 4, 100, 181, 1, 70]
abbrev dktX8_forget_0 : List UInt8 := dkwX8_forget_0 ++ dktX8_forget_1
theorem dksX8_forget_0 : cX8_forget.data.toList.drop 0 = dktX8_forget_0 := by decide +kernel
theorem dksX8_forget_1 : cX8_forget.data.toList.drop 24 = dktX8_forget_1 := dk_seg dksX8_forget_0 24 rfl rfl
theorem dX8_forget_0 : decode cX8_forget 0 = .ok (.aload_n 0, 1) := dk_42 (dk_at dksX8_forget_0 0 rfl rfl)
theorem dX8_forget_1 : decode cX8_forget 1 = .ok (.iconst 0, 1) := dk_3 (dk_at dksX8_forget_0 1 rfl rfl)
theorem dX8_forget_2 : decode cX8_forget 2 = .ok (.putfield 150, 3) := dk_181 0 150 (dk_at dksX8_forget_0 2 rfl rfl)
theorem dX8_forget_5 : decode cX8_forget 5 = .ok (.aload_n 0, 1) := dk_42 (dk_at dksX8_forget_0 5 rfl rfl)
theorem dX8_forget_6 : decode cX8_forget 6 = .ok (.getfield 326, 3) := dk_180 1 70 (dk_at dksX8_forget_0 6 rfl rfl)
theorem dX8_forget_9 : decode cX8_forget 9 = .ok (.ifCond .ne 5, 3) := dk_154 0 5 (dk_at dksX8_forget_0 9 rfl rfl)
theorem dX8_forget_12 : decode cX8_forget 12 = .ok (.iconst (-1), 1) := dk_2 (dk_at dksX8_forget_0 12 rfl rfl)
theorem dX8_forget_13 : decode cX8_forget 13 = .ok (.ireturn, 1) := dk_172 (dk_at dksX8_forget_0 13 rfl rfl)
theorem dX8_forget_14 : decode cX8_forget 14 = .ok (.aload_n 0, 1) := dk_42 (dk_at dksX8_forget_0 14 rfl rfl)
theorem dX8_forget_15 : decode cX8_forget 15 = .ok (.dup, 1) := dk_89 (dk_at dksX8_forget_0 15 rfl rfl)
theorem dX8_forget_16 : decode cX8_forget 16 = .ok (.getfield 326, 3) := dk_180 1 70 (dk_at dksX8_forget_0 16 rfl rfl)
theorem dX8_forget_19 : decode cX8_forget 19 = .ok (.iconst 1, 1) := dk_4 (dk_at dksX8_forget_0 19 rfl rfl)
theorem dX8_forget_20 : decode cX8_forget 20 = .ok (.isub, 1) := dk_100 (dk_at dksX8_forget_0 20 rfl rfl)
theorem dX8_forget_21 : decode cX8_forget 21 = .ok (.putfield 326, 3) := dk_181 1 70 (dk_at dksX8_forget_0 21 rfl rfl)
theorem dX8_forget_24 : decode cX8_forget 24 = .ok (.aload_n 0, 1) := dk_42 (dk_at dksX8_forget_1 0 rfl rfl)
theorem dX8_forget_25 : decode cX8_forget 25 = .ok (.getfield 326, 3) := dk_180 1 70 (dk_at dksX8_forget_1 1 rfl rfl)
theorem dX8_forget_28 : decode cX8_forget 28 = .ok (.ireturn, 1) := dk_172 (dk_at dksX8_forget_1 4 rfl rfl)
abbrev cX8_sent : ByteArray := prog_20_method_95_code
def yX8_sent : MethodName := ⟨RX8, "sent", "(II)I"⟩
def dkwX8_sent_8 : List UInt8 := [29, 167, 0, 5, 21, 4, 172]
abbrev dktX8_sent_8 : List UInt8 := dkwX8_sent_8 ++ []
def dkwX8_sent_7 : List UInt8 := [21, 4, 54, 4, 132, 5, 1, 167, 255, 159, 42, 89, 180, 1, 58, 4, 100, 181, 1, 58, 28, 154, 0, 7]
abbrev dktX8_sent_7 : List UInt8 := dkwX8_sent_7 ++ dktX8_sent_8
def dkwX8_sent_6 : List UInt8 := [21, 5, 42, 180, 0, 34, 3, 46, 108, 104, 21, 5, 42, 180, 0, 34, 3, 46, 112, 96, 167, 0, 5]
abbrev dktX8_sent_6 : List UInt8 := dkwX8_sent_6 ++ dktX8_sent_7
def dkwX8_sent_5 : List UInt8 := [184, 1, 187, 42, 182, 1, 201, 154, 0, 6, 167, 0, 41, 132, 3, 1, 21, 4, 2, 160, 0, 28, 16, 100]
abbrev dktX8_sent_5 : List UInt8 := dkwX8_sent_5 ++ dktX8_sent_6
def dkwX8_sent_4 : List UInt8 := [180, 1, 58, 4, 100, 27, 21, 5, 42, 180, 0, 34, 3, 46, 112, 21, 5, 42, 180, 0, 34, 3, 46, 108]
abbrev dktX8_sent_4 : List UInt8 := dkwX8_sent_4 ++ dktX8_sent_5
def dkwX8_sent_3 : List UInt8 := [3, 54, 5, 21, 5, 42, 180, 0, 34, 3, 46, 16, 61, 104, 162, 0, 89, 42, 180, 0, 73, 42]
abbrev dktX8_sent_3 : List UInt8 := dkwX8_sent_3 ++ dktX8_sent_4
def dkwX8_sent_2 : List UInt8 := [153, 0, 7, 4, 167, 0, 4, 3, 172, 42, 89, 180, 1, 58, 4, 96, 181, 1, 58, 3, 62, 2, 54, 4]
abbrev dktX8_sent_2 : List UInt8 := dkwX8_sent_2 ++ dktX8_sent_3
def dkwX8_sent_1 : List UInt8 := [154, 0, 9, 42, 4, 182, 1, 42, 172, 42, 182, 1, 154, 87, 28, 5, 160, 0, 16, 42, 182, 1, 201]
abbrev dktX8_sent_1 : List UInt8 := dkwX8_sent_1 ++ dktX8_sent_2
def dkwX8_sent_0 : List UInt8 := [42, 3, 181, 0, 150, 42, 27, 182, 1, 168, 153, 0, 15, 28, 133, 9, 20, 1, 199, 184, 0, 153]
abbrev dktX8_sent_0 : List UInt8 := dkwX8_sent_0 ++ dktX8_sent_1
theorem dksX8_sent_0 : cX8_sent.data.toList.drop 0 = dktX8_sent_0 := by decide +kernel
theorem dksX8_sent_1 : cX8_sent.data.toList.drop 22 = dktX8_sent_1 := dk_seg dksX8_sent_0 22 rfl rfl
theorem dksX8_sent_2 : cX8_sent.data.toList.drop 45 = dktX8_sent_2 := dk_seg dksX8_sent_1 23 rfl rfl
theorem dksX8_sent_3 : cX8_sent.data.toList.drop 69 = dktX8_sent_3 := dk_seg dksX8_sent_2 24 rfl rfl
theorem dksX8_sent_4 : cX8_sent.data.toList.drop 91 = dktX8_sent_4 := dk_seg dksX8_sent_3 22 rfl rfl
theorem dksX8_sent_5 : cX8_sent.data.toList.drop 115 = dktX8_sent_5 := dk_seg dksX8_sent_4 24 rfl rfl
theorem dksX8_sent_6 : cX8_sent.data.toList.drop 139 = dktX8_sent_6 := dk_seg dksX8_sent_5 24 rfl rfl
theorem dksX8_sent_7 : cX8_sent.data.toList.drop 162 = dktX8_sent_7 := dk_seg dksX8_sent_6 23 rfl rfl
theorem dksX8_sent_8 : cX8_sent.data.toList.drop 186 = dktX8_sent_8 := dk_seg dksX8_sent_7 24 rfl rfl
theorem dX8_sent_0 : decode cX8_sent 0 = .ok (.aload_n 0, 1) := dk_42 (dk_at dksX8_sent_0 0 rfl rfl)
theorem dX8_sent_1 : decode cX8_sent 1 = .ok (.iconst 0, 1) := dk_3 (dk_at dksX8_sent_0 1 rfl rfl)
theorem dX8_sent_2 : decode cX8_sent 2 = .ok (.putfield 150, 3) := dk_181 0 150 (dk_at dksX8_sent_0 2 rfl rfl)
theorem dX8_sent_5 : decode cX8_sent 5 = .ok (.aload_n 0, 1) := dk_42 (dk_at dksX8_sent_0 5 rfl rfl)
theorem dX8_sent_6 : decode cX8_sent 6 = .ok (.iload_n 1, 1) := dk_27 (dk_at dksX8_sent_0 6 rfl rfl)
theorem dX8_sent_7 : decode cX8_sent 7 = .ok (.invokevirtual 424, 3) := dk_182 1 168 (dk_at dksX8_sent_0 7 rfl rfl)
theorem dX8_sent_10 : decode cX8_sent 10 = .ok (.ifCond .eq 15, 3) := dk_153 0 15 (dk_at dksX8_sent_0 10 rfl rfl)
theorem dX8_sent_13 : decode cX8_sent 13 = .ok (.iload_n 2, 1) := dk_28 (dk_at dksX8_sent_0 13 rfl rfl)
theorem dX8_sent_14 : decode cX8_sent 14 = .ok (.i2l, 1) := dk_133 (dk_at dksX8_sent_0 14 rfl rfl)
theorem dX8_sent_15 : decode cX8_sent 15 = .ok (.lconst 0, 1) := dk_9 (dk_at dksX8_sent_0 15 rfl rfl)
theorem dX8_sent_16 : decode cX8_sent 16 = .ok (.ldc2_w 455, 3) := dk_20 1 199 (dk_at dksX8_sent_0 16 rfl rfl)
theorem dX8_sent_19 : decode cX8_sent 19 = .ok (.invokestatic 153, 3) := dk_184 0 153 (dk_at dksX8_sent_0 19 rfl rfl)
theorem dX8_sent_22 : decode cX8_sent 22 = .ok (.ifCond .ne 9, 3) := dk_154 0 9 (dk_at dksX8_sent_1 0 rfl rfl)
theorem dX8_sent_25 : decode cX8_sent 25 = .ok (.aload_n 0, 1) := dk_42 (dk_at dksX8_sent_1 3 rfl rfl)
theorem dX8_sent_26 : decode cX8_sent 26 = .ok (.iconst 1, 1) := dk_4 (dk_at dksX8_sent_1 4 rfl rfl)
theorem dX8_sent_27 : decode cX8_sent 27 = .ok (.invokevirtual 298, 3) := dk_182 1 42 (dk_at dksX8_sent_1 5 rfl rfl)
theorem dX8_sent_30 : decode cX8_sent 30 = .ok (.ireturn, 1) := dk_172 (dk_at dksX8_sent_1 8 rfl rfl)
theorem dX8_sent_31 : decode cX8_sent 31 = .ok (.aload_n 0, 1) := dk_42 (dk_at dksX8_sent_1 9 rfl rfl)
theorem dX8_sent_32 : decode cX8_sent 32 = .ok (.invokevirtual 410, 3) := dk_182 1 154 (dk_at dksX8_sent_1 10 rfl rfl)
theorem dX8_sent_35 : decode cX8_sent 35 = .ok (.pop, 1) := dk_87 (dk_at dksX8_sent_1 13 rfl rfl)
theorem dX8_sent_36 : decode cX8_sent 36 = .ok (.iload_n 2, 1) := dk_28 (dk_at dksX8_sent_1 14 rfl rfl)
theorem dX8_sent_37 : decode cX8_sent 37 = .ok (.iconst 2, 1) := dk_5 (dk_at dksX8_sent_1 15 rfl rfl)
theorem dX8_sent_38 : decode cX8_sent 38 = .ok (.if_icmp .ne 16, 3) := dk_160 0 16 (dk_at dksX8_sent_1 16 rfl rfl)
theorem dX8_sent_41 : decode cX8_sent 41 = .ok (.aload_n 0, 1) := dk_42 (dk_at dksX8_sent_1 19 rfl rfl)
theorem dX8_sent_42 : decode cX8_sent 42 = .ok (.invokevirtual 457, 3) := dk_182 1 201 (dk_at dksX8_sent_1 20 rfl rfl)
theorem dX8_sent_45 : decode cX8_sent 45 = .ok (.ifCond .eq 7, 3) := dk_153 0 7 (dk_at dksX8_sent_2 0 rfl rfl)
theorem dX8_sent_48 : decode cX8_sent 48 = .ok (.iconst 1, 1) := dk_4 (dk_at dksX8_sent_2 3 rfl rfl)
theorem dX8_sent_49 : decode cX8_sent 49 = .ok (.goto 4, 3) := dk_167 0 4 (dk_at dksX8_sent_2 4 rfl rfl)
theorem dX8_sent_52 : decode cX8_sent 52 = .ok (.iconst 0, 1) := dk_3 (dk_at dksX8_sent_2 7 rfl rfl)
theorem dX8_sent_53 : decode cX8_sent 53 = .ok (.ireturn, 1) := dk_172 (dk_at dksX8_sent_2 8 rfl rfl)
theorem dX8_sent_54 : decode cX8_sent 54 = .ok (.aload_n 0, 1) := dk_42 (dk_at dksX8_sent_2 9 rfl rfl)
theorem dX8_sent_55 : decode cX8_sent 55 = .ok (.dup, 1) := dk_89 (dk_at dksX8_sent_2 10 rfl rfl)
theorem dX8_sent_56 : decode cX8_sent 56 = .ok (.getfield 314, 3) := dk_180 1 58 (dk_at dksX8_sent_2 11 rfl rfl)
theorem dX8_sent_59 : decode cX8_sent 59 = .ok (.iconst 1, 1) := dk_4 (dk_at dksX8_sent_2 14 rfl rfl)
theorem dX8_sent_60 : decode cX8_sent 60 = .ok (.iadd, 1) := dk_96 (dk_at dksX8_sent_2 15 rfl rfl)
theorem dX8_sent_61 : decode cX8_sent 61 = .ok (.putfield 314, 3) := dk_181 1 58 (dk_at dksX8_sent_2 16 rfl rfl)
theorem dX8_sent_64 : decode cX8_sent 64 = .ok (.iconst 0, 1) := dk_3 (dk_at dksX8_sent_2 19 rfl rfl)
theorem dX8_sent_65 : decode cX8_sent 65 = .ok (.istore_n 3, 1) := dk_62 (dk_at dksX8_sent_2 20 rfl rfl)
theorem dX8_sent_66 : decode cX8_sent 66 = .ok (.iconst (-1), 1) := dk_2 (dk_at dksX8_sent_2 21 rfl rfl)
theorem dX8_sent_67 : decode cX8_sent 67 = .ok (.istore 4, 2) := dk_54 4 (dk_at dksX8_sent_2 22 rfl rfl)
theorem dX8_sent_69 : decode cX8_sent 69 = .ok (.iconst 0, 1) := dk_3 (dk_at dksX8_sent_3 0 rfl rfl)
theorem dX8_sent_70 : decode cX8_sent 70 = .ok (.istore 5, 2) := dk_54 5 (dk_at dksX8_sent_3 1 rfl rfl)
theorem dX8_sent_72 : decode cX8_sent 72 = .ok (.iload 5, 2) := dk_21 5 (dk_at dksX8_sent_3 3 rfl rfl)
theorem dX8_sent_74 : decode cX8_sent 74 = .ok (.aload_n 0, 1) := dk_42 (dk_at dksX8_sent_3 5 rfl rfl)
theorem dX8_sent_75 : decode cX8_sent 75 = .ok (.getfield 34, 3) := dk_180 0 34 (dk_at dksX8_sent_3 6 rfl rfl)
theorem dX8_sent_78 : decode cX8_sent 78 = .ok (.iconst 0, 1) := dk_3 (dk_at dksX8_sent_3 9 rfl rfl)
theorem dX8_sent_79 : decode cX8_sent 79 = .ok (.iaload, 1) := dk_46 (dk_at dksX8_sent_3 10 rfl rfl)
theorem dX8_sent_80 : decode cX8_sent 80 = .ok (.bipush 61, 2) := dk_16 61 (dk_at dksX8_sent_3 11 rfl rfl)
theorem dX8_sent_82 : decode cX8_sent 82 = .ok (.imul, 1) := dk_104 (dk_at dksX8_sent_3 13 rfl rfl)
theorem dX8_sent_83 : decode cX8_sent 83 = .ok (.if_icmp .ge 89, 3) := dk_162 0 89 (dk_at dksX8_sent_3 14 rfl rfl)
theorem dX8_sent_86 : decode cX8_sent 86 = .ok (.aload_n 0, 1) := dk_42 (dk_at dksX8_sent_3 17 rfl rfl)
theorem dX8_sent_87 : decode cX8_sent 87 = .ok (.getfield 73, 3) := dk_180 0 73 (dk_at dksX8_sent_3 18 rfl rfl)
theorem dX8_sent_90 : decode cX8_sent 90 = .ok (.aload_n 0, 1) := dk_42 (dk_at dksX8_sent_3 21 rfl rfl)
theorem dX8_sent_91 : decode cX8_sent 91 = .ok (.getfield 314, 3) := dk_180 1 58 (dk_at dksX8_sent_4 0 rfl rfl)
theorem dX8_sent_94 : decode cX8_sent 94 = .ok (.iconst 1, 1) := dk_4 (dk_at dksX8_sent_4 3 rfl rfl)
theorem dX8_sent_95 : decode cX8_sent 95 = .ok (.isub, 1) := dk_100 (dk_at dksX8_sent_4 4 rfl rfl)
theorem dX8_sent_96 : decode cX8_sent 96 = .ok (.iload_n 1, 1) := dk_27 (dk_at dksX8_sent_4 5 rfl rfl)
theorem dX8_sent_97 : decode cX8_sent 97 = .ok (.iload 5, 2) := dk_21 5 (dk_at dksX8_sent_4 6 rfl rfl)
theorem dX8_sent_99 : decode cX8_sent 99 = .ok (.aload_n 0, 1) := dk_42 (dk_at dksX8_sent_4 8 rfl rfl)
theorem dX8_sent_100 : decode cX8_sent 100 = .ok (.getfield 34, 3) := dk_180 0 34 (dk_at dksX8_sent_4 9 rfl rfl)
theorem dX8_sent_103 : decode cX8_sent 103 = .ok (.iconst 0, 1) := dk_3 (dk_at dksX8_sent_4 12 rfl rfl)
theorem dX8_sent_104 : decode cX8_sent 104 = .ok (.iaload, 1) := dk_46 (dk_at dksX8_sent_4 13 rfl rfl)
theorem dX8_sent_105 : decode cX8_sent 105 = .ok (.irem, 1) := dk_112 (dk_at dksX8_sent_4 14 rfl rfl)
theorem dX8_sent_106 : decode cX8_sent 106 = .ok (.iload 5, 2) := dk_21 5 (dk_at dksX8_sent_4 15 rfl rfl)
theorem dX8_sent_108 : decode cX8_sent 108 = .ok (.aload_n 0, 1) := dk_42 (dk_at dksX8_sent_4 17 rfl rfl)
theorem dX8_sent_109 : decode cX8_sent 109 = .ok (.getfield 34, 3) := dk_180 0 34 (dk_at dksX8_sent_4 18 rfl rfl)
theorem dX8_sent_112 : decode cX8_sent 112 = .ok (.iconst 0, 1) := dk_3 (dk_at dksX8_sent_4 21 rfl rfl)
theorem dX8_sent_113 : decode cX8_sent 113 = .ok (.iaload, 1) := dk_46 (dk_at dksX8_sent_4 22 rfl rfl)
theorem dX8_sent_114 : decode cX8_sent 114 = .ok (.idiv, 1) := dk_108 (dk_at dksX8_sent_4 23 rfl rfl)
theorem dX8_sent_115 : decode cX8_sent 115 = .ok (.invokestatic 443, 3) := dk_184 1 187 (dk_at dksX8_sent_5 0 rfl rfl)
theorem dX8_sent_118 : decode cX8_sent 118 = .ok (.aload_n 0, 1) := dk_42 (dk_at dksX8_sent_5 3 rfl rfl)
theorem dX8_sent_119 : decode cX8_sent 119 = .ok (.invokevirtual 457, 3) := dk_182 1 201 (dk_at dksX8_sent_5 4 rfl rfl)
theorem dX8_sent_122 : decode cX8_sent 122 = .ok (.ifCond .ne 6, 3) := dk_154 0 6 (dk_at dksX8_sent_5 7 rfl rfl)
theorem dX8_sent_125 : decode cX8_sent 125 = .ok (.goto 41, 3) := dk_167 0 41 (dk_at dksX8_sent_5 10 rfl rfl)
theorem dX8_sent_128 : decode cX8_sent 128 = .ok (.iinc 3 1, 3) := dk_132 3 1 (dk_at dksX8_sent_5 13 rfl rfl)
theorem dX8_sent_131 : decode cX8_sent 131 = .ok (.iload 4, 2) := dk_21 4 (dk_at dksX8_sent_5 16 rfl rfl)
theorem dX8_sent_133 : decode cX8_sent 133 = .ok (.iconst (-1), 1) := dk_2 (dk_at dksX8_sent_5 18 rfl rfl)
theorem dX8_sent_134 : decode cX8_sent 134 = .ok (.if_icmp .ne 28, 3) := dk_160 0 28 (dk_at dksX8_sent_5 19 rfl rfl)
theorem dX8_sent_137 : decode cX8_sent 137 = .ok (.bipush 100, 2) := dk_16 100 (dk_at dksX8_sent_5 22 rfl rfl)
theorem dX8_sent_139 : decode cX8_sent 139 = .ok (.iload 5, 2) := dk_21 5 (dk_at dksX8_sent_6 0 rfl rfl)
theorem dX8_sent_141 : decode cX8_sent 141 = .ok (.aload_n 0, 1) := dk_42 (dk_at dksX8_sent_6 2 rfl rfl)
theorem dX8_sent_142 : decode cX8_sent 142 = .ok (.getfield 34, 3) := dk_180 0 34 (dk_at dksX8_sent_6 3 rfl rfl)
theorem dX8_sent_145 : decode cX8_sent 145 = .ok (.iconst 0, 1) := dk_3 (dk_at dksX8_sent_6 6 rfl rfl)
theorem dX8_sent_146 : decode cX8_sent 146 = .ok (.iaload, 1) := dk_46 (dk_at dksX8_sent_6 7 rfl rfl)
theorem dX8_sent_147 : decode cX8_sent 147 = .ok (.idiv, 1) := dk_108 (dk_at dksX8_sent_6 8 rfl rfl)
theorem dX8_sent_148 : decode cX8_sent 148 = .ok (.imul, 1) := dk_104 (dk_at dksX8_sent_6 9 rfl rfl)
theorem dX8_sent_149 : decode cX8_sent 149 = .ok (.iload 5, 2) := dk_21 5 (dk_at dksX8_sent_6 10 rfl rfl)
theorem dX8_sent_151 : decode cX8_sent 151 = .ok (.aload_n 0, 1) := dk_42 (dk_at dksX8_sent_6 12 rfl rfl)
theorem dX8_sent_152 : decode cX8_sent 152 = .ok (.getfield 34, 3) := dk_180 0 34 (dk_at dksX8_sent_6 13 rfl rfl)
theorem dX8_sent_155 : decode cX8_sent 155 = .ok (.iconst 0, 1) := dk_3 (dk_at dksX8_sent_6 16 rfl rfl)
theorem dX8_sent_156 : decode cX8_sent 156 = .ok (.iaload, 1) := dk_46 (dk_at dksX8_sent_6 17 rfl rfl)
theorem dX8_sent_157 : decode cX8_sent 157 = .ok (.irem, 1) := dk_112 (dk_at dksX8_sent_6 18 rfl rfl)
theorem dX8_sent_158 : decode cX8_sent 158 = .ok (.iadd, 1) := dk_96 (dk_at dksX8_sent_6 19 rfl rfl)
theorem dX8_sent_159 : decode cX8_sent 159 = .ok (.goto 5, 3) := dk_167 0 5 (dk_at dksX8_sent_6 20 rfl rfl)
theorem dX8_sent_162 : decode cX8_sent 162 = .ok (.iload 4, 2) := dk_21 4 (dk_at dksX8_sent_7 0 rfl rfl)
theorem dX8_sent_164 : decode cX8_sent 164 = .ok (.istore 4, 2) := dk_54 4 (dk_at dksX8_sent_7 2 rfl rfl)
theorem dX8_sent_166 : decode cX8_sent 166 = .ok (.iinc 5 1, 3) := dk_132 5 1 (dk_at dksX8_sent_7 4 rfl rfl)
theorem dX8_sent_169 : decode cX8_sent 169 = .ok (.goto (-97), 3) := dk_167 255 159 (dk_at dksX8_sent_7 7 rfl rfl)
theorem dX8_sent_172 : decode cX8_sent 172 = .ok (.aload_n 0, 1) := dk_42 (dk_at dksX8_sent_7 10 rfl rfl)
theorem dX8_sent_173 : decode cX8_sent 173 = .ok (.dup, 1) := dk_89 (dk_at dksX8_sent_7 11 rfl rfl)
theorem dX8_sent_174 : decode cX8_sent 174 = .ok (.getfield 314, 3) := dk_180 1 58 (dk_at dksX8_sent_7 12 rfl rfl)
theorem dX8_sent_177 : decode cX8_sent 177 = .ok (.iconst 1, 1) := dk_4 (dk_at dksX8_sent_7 15 rfl rfl)
theorem dX8_sent_178 : decode cX8_sent 178 = .ok (.isub, 1) := dk_100 (dk_at dksX8_sent_7 16 rfl rfl)
theorem dX8_sent_179 : decode cX8_sent 179 = .ok (.putfield 314, 3) := dk_181 1 58 (dk_at dksX8_sent_7 17 rfl rfl)
theorem dX8_sent_182 : decode cX8_sent 182 = .ok (.iload_n 2, 1) := dk_28 (dk_at dksX8_sent_7 20 rfl rfl)
theorem dX8_sent_183 : decode cX8_sent 183 = .ok (.ifCond .ne 7, 3) := dk_154 0 7 (dk_at dksX8_sent_7 21 rfl rfl)
theorem dX8_sent_186 : decode cX8_sent 186 = .ok (.iload_n 3, 1) := dk_29 (dk_at dksX8_sent_8 0 rfl rfl)
theorem dX8_sent_187 : decode cX8_sent 187 = .ok (.goto 5, 3) := dk_167 0 5 (dk_at dksX8_sent_8 1 rfl rfl)
theorem dX8_sent_190 : decode cX8_sent 190 = .ok (.iload 4, 2) := dk_21 4 (dk_at dksX8_sent_8 4 rfl rfl)
theorem dX8_sent_192 : decode cX8_sent 192 = .ok (.ireturn, 1) := dk_172 (dk_at dksX8_sent_8 6 rfl rfl)
abbrev cX8_isAsSeen : ByteArray := prog_20_method_94_code
def yX8_isAsSeen : MethodName := ⟨RX8, "isAsSeen", "()Z"⟩
def dkwX8_isAsSeen_2 : List UInt8 := [132, 1, 1, 167, 255, 210, 4, 172]
abbrev dktX8_isAsSeen_2 : List UInt8 := dkwX8_isAsSeen_2 ++ []
def dkwX8_isAsSeen_1 : List UInt8 := [182, 1, 125, 153, 0, 7, 4, 167, 0, 4, 3, 42, 180, 0, 129, 27, 46, 159, 0, 5, 3, 172]
abbrev dktX8_isAsSeen_1 : List UInt8 := dkwX8_isAsSeen_1 ++ dktX8_isAsSeen_2
def dkwX8_isAsSeen_0 : List UInt8 := [3, 60, 27, 42, 180, 1, 70, 162, 0, 44, 42, 42, 180, 0, 123, 27, 46, 42, 180, 0, 126, 27, 46]
abbrev dktX8_isAsSeen_0 : List UInt8 := dkwX8_isAsSeen_0 ++ dktX8_isAsSeen_1
theorem dksX8_isAsSeen_0 : cX8_isAsSeen.data.toList.drop 0 = dktX8_isAsSeen_0 := by decide +kernel
theorem dksX8_isAsSeen_1 : cX8_isAsSeen.data.toList.drop 23 = dktX8_isAsSeen_1 := dk_seg dksX8_isAsSeen_0 23 rfl rfl
theorem dksX8_isAsSeen_2 : cX8_isAsSeen.data.toList.drop 45 = dktX8_isAsSeen_2 := dk_seg dksX8_isAsSeen_1 22 rfl rfl
theorem dX8_isAsSeen_0 : decode cX8_isAsSeen 0 = .ok (.iconst 0, 1) := dk_3 (dk_at dksX8_isAsSeen_0 0 rfl rfl)
theorem dX8_isAsSeen_1 : decode cX8_isAsSeen 1 = .ok (.istore_n 1, 1) := dk_60 (dk_at dksX8_isAsSeen_0 1 rfl rfl)
theorem dX8_isAsSeen_2 : decode cX8_isAsSeen 2 = .ok (.iload_n 1, 1) := dk_27 (dk_at dksX8_isAsSeen_0 2 rfl rfl)
theorem dX8_isAsSeen_3 : decode cX8_isAsSeen 3 = .ok (.aload_n 0, 1) := dk_42 (dk_at dksX8_isAsSeen_0 3 rfl rfl)
theorem dX8_isAsSeen_4 : decode cX8_isAsSeen 4 = .ok (.getfield 326, 3) := dk_180 1 70 (dk_at dksX8_isAsSeen_0 4 rfl rfl)
theorem dX8_isAsSeen_7 : decode cX8_isAsSeen 7 = .ok (.if_icmp .ge 44, 3) := dk_162 0 44 (dk_at dksX8_isAsSeen_0 7 rfl rfl)
theorem dX8_isAsSeen_10 : decode cX8_isAsSeen 10 = .ok (.aload_n 0, 1) := dk_42 (dk_at dksX8_isAsSeen_0 10 rfl rfl)
theorem dX8_isAsSeen_11 : decode cX8_isAsSeen 11 = .ok (.aload_n 0, 1) := dk_42 (dk_at dksX8_isAsSeen_0 11 rfl rfl)
theorem dX8_isAsSeen_12 : decode cX8_isAsSeen 12 = .ok (.getfield 123, 3) := dk_180 0 123 (dk_at dksX8_isAsSeen_0 12 rfl rfl)
theorem dX8_isAsSeen_15 : decode cX8_isAsSeen 15 = .ok (.iload_n 1, 1) := dk_27 (dk_at dksX8_isAsSeen_0 15 rfl rfl)
theorem dX8_isAsSeen_16 : decode cX8_isAsSeen 16 = .ok (.iaload, 1) := dk_46 (dk_at dksX8_isAsSeen_0 16 rfl rfl)
theorem dX8_isAsSeen_17 : decode cX8_isAsSeen 17 = .ok (.aload_n 0, 1) := dk_42 (dk_at dksX8_isAsSeen_0 17 rfl rfl)
theorem dX8_isAsSeen_18 : decode cX8_isAsSeen 18 = .ok (.getfield 126, 3) := dk_180 0 126 (dk_at dksX8_isAsSeen_0 18 rfl rfl)
theorem dX8_isAsSeen_21 : decode cX8_isAsSeen 21 = .ok (.iload_n 1, 1) := dk_27 (dk_at dksX8_isAsSeen_0 21 rfl rfl)
theorem dX8_isAsSeen_22 : decode cX8_isAsSeen 22 = .ok (.iaload, 1) := dk_46 (dk_at dksX8_isAsSeen_0 22 rfl rfl)
theorem dX8_isAsSeen_23 : decode cX8_isAsSeen 23 = .ok (.invokevirtual 381, 3) := dk_182 1 125 (dk_at dksX8_isAsSeen_1 0 rfl rfl)
theorem dX8_isAsSeen_26 : decode cX8_isAsSeen 26 = .ok (.ifCond .eq 7, 3) := dk_153 0 7 (dk_at dksX8_isAsSeen_1 3 rfl rfl)
theorem dX8_isAsSeen_29 : decode cX8_isAsSeen 29 = .ok (.iconst 1, 1) := dk_4 (dk_at dksX8_isAsSeen_1 6 rfl rfl)
theorem dX8_isAsSeen_30 : decode cX8_isAsSeen 30 = .ok (.goto 4, 3) := dk_167 0 4 (dk_at dksX8_isAsSeen_1 7 rfl rfl)
theorem dX8_isAsSeen_33 : decode cX8_isAsSeen 33 = .ok (.iconst 0, 1) := dk_3 (dk_at dksX8_isAsSeen_1 10 rfl rfl)
theorem dX8_isAsSeen_34 : decode cX8_isAsSeen 34 = .ok (.aload_n 0, 1) := dk_42 (dk_at dksX8_isAsSeen_1 11 rfl rfl)
theorem dX8_isAsSeen_35 : decode cX8_isAsSeen 35 = .ok (.getfield 129, 3) := dk_180 0 129 (dk_at dksX8_isAsSeen_1 12 rfl rfl)
theorem dX8_isAsSeen_38 : decode cX8_isAsSeen 38 = .ok (.iload_n 1, 1) := dk_27 (dk_at dksX8_isAsSeen_1 15 rfl rfl)
theorem dX8_isAsSeen_39 : decode cX8_isAsSeen 39 = .ok (.iaload, 1) := dk_46 (dk_at dksX8_isAsSeen_1 16 rfl rfl)
theorem dX8_isAsSeen_40 : decode cX8_isAsSeen 40 = .ok (.if_icmp .eq 5, 3) := dk_159 0 5 (dk_at dksX8_isAsSeen_1 17 rfl rfl)
theorem dX8_isAsSeen_43 : decode cX8_isAsSeen 43 = .ok (.iconst 0, 1) := dk_3 (dk_at dksX8_isAsSeen_1 20 rfl rfl)
theorem dX8_isAsSeen_44 : decode cX8_isAsSeen 44 = .ok (.ireturn, 1) := dk_172 (dk_at dksX8_isAsSeen_1 21 rfl rfl)
theorem dX8_isAsSeen_45 : decode cX8_isAsSeen 45 = .ok (.iinc 1 1, 3) := dk_132 1 1 (dk_at dksX8_isAsSeen_2 0 rfl rfl)
theorem dX8_isAsSeen_48 : decode cX8_isAsSeen 48 = .ok (.goto (-46), 3) := dk_167 255 210 (dk_at dksX8_isAsSeen_2 3 rfl rfl)
theorem dX8_isAsSeen_51 : decode cX8_isAsSeen 51 = .ok (.iconst 1, 1) := dk_4 (dk_at dksX8_isAsSeen_2 6 rfl rfl)
theorem dX8_isAsSeen_52 : decode cX8_isAsSeen 52 = .ok (.ireturn, 1) := dk_172 (dk_at dksX8_isAsSeen_2 7 rfl rfl)
abbrev cX8_game : ByteArray := prog_20_method_97_code
def yX8_game : MethodName := ⟨RX8, "game", "(II)I"⟩
def dkwX8_game_8 : List UInt8 := [167, 0, 5, 21, 4, 172]
abbrev dktX8_game_8 : List UInt8 := dkwX8_game_8 ++ []
def dkwX8_game_7 : List UInt8 := [167, 0, 5, 21, 4, 54, 4, 132, 6, 1, 167, 255, 135, 132, 5, 1, 167, 255, 115, 28, 154, 0, 7, 29]
abbrev dktX8_game_7 : List UInt8 := dkwX8_game_7 ++ dktX8_game_8
def dkwX8_game_6 : List UInt8 := [154, 0, 6, 167, 0, 27, 132, 3, 1, 21, 4, 2, 160, 0, 14, 16, 10, 21, 5, 104, 21, 6, 96]
abbrev dktX8_game_6 : List UInt8 := dkwX8_game_6 ++ dktX8_game_7
def dkwX8_game_5 : List UInt8 := [21, 6, 182, 1, 205, 154, 0, 7, 4, 167, 0, 4, 3, 54, 8, 132, 9, 1, 167, 255, 201, 21, 8]
abbrev dktX8_game_5 : List UInt8 := dkwX8_game_5 ++ dktX8_game_6
def dkwX8_game_4 : List UInt8 := [153, 0, 45, 21, 7, 153, 0, 15, 42, 27, 21, 5, 21, 9, 182, 1, 205, 167, 0, 20, 42, 27, 21, 9]
abbrev dktX8_game_4 : List UInt8 := dkwX8_game_4 ++ dktX8_game_5
def dkwX8_game_3 : List UInt8 := [182, 1, 205, 54, 7, 4, 54, 8, 3, 54, 9, 21, 9, 42, 180, 0, 34, 7, 46, 162, 0, 50, 21, 8]
abbrev dktX8_game_3 : List UInt8 := dkwX8_game_3 ++ dktX8_game_4
def dkwX8_game_2 : List UInt8 := [46, 162, 0, 136, 3, 54, 6, 21, 6, 42, 180, 0, 34, 7, 46, 162, 0, 116, 42, 27, 21, 5, 21, 6]
abbrev dktX8_game_2 : List UInt8 := dkwX8_game_2 ++ dktX8_game_3
def dkwX8_game_1 : List UInt8 := [182, 1, 42, 172, 42, 182, 1, 154, 87, 3, 62, 2, 54, 4, 3, 54, 5, 21, 5, 42, 180, 0, 34, 7]
abbrev dktX8_game_1 : List UInt8 := dkwX8_game_1 ++ dktX8_game_2
def dkwX8_game_0 : List UInt8 := [42, 3, 181, 0, 150, 42, 27, 182, 1, 168, 153, 0, 12, 28, 155, 0, 8, 28, 4, 164, 0, 9, 42, 4]
abbrev dktX8_game_0 : List UInt8 := dkwX8_game_0 ++ dktX8_game_1
theorem dksX8_game_0 : cX8_game.data.toList.drop 0 = dktX8_game_0 := by decide +kernel
theorem dksX8_game_1 : cX8_game.data.toList.drop 24 = dktX8_game_1 := dk_seg dksX8_game_0 24 rfl rfl
theorem dksX8_game_2 : cX8_game.data.toList.drop 48 = dktX8_game_2 := dk_seg dksX8_game_1 24 rfl rfl
theorem dksX8_game_3 : cX8_game.data.toList.drop 72 = dktX8_game_3 := dk_seg dksX8_game_2 24 rfl rfl
theorem dksX8_game_4 : cX8_game.data.toList.drop 96 = dktX8_game_4 := dk_seg dksX8_game_3 24 rfl rfl
theorem dksX8_game_5 : cX8_game.data.toList.drop 120 = dktX8_game_5 := dk_seg dksX8_game_4 24 rfl rfl
theorem dksX8_game_6 : cX8_game.data.toList.drop 143 = dktX8_game_6 := dk_seg dksX8_game_5 23 rfl rfl
theorem dksX8_game_7 : cX8_game.data.toList.drop 166 = dktX8_game_7 := dk_seg dksX8_game_6 23 rfl rfl
theorem dksX8_game_8 : cX8_game.data.toList.drop 190 = dktX8_game_8 := dk_seg dksX8_game_7 24 rfl rfl
theorem dX8_game_0 : decode cX8_game 0 = .ok (.aload_n 0, 1) := dk_42 (dk_at dksX8_game_0 0 rfl rfl)
theorem dX8_game_1 : decode cX8_game 1 = .ok (.iconst 0, 1) := dk_3 (dk_at dksX8_game_0 1 rfl rfl)
theorem dX8_game_2 : decode cX8_game 2 = .ok (.putfield 150, 3) := dk_181 0 150 (dk_at dksX8_game_0 2 rfl rfl)
theorem dX8_game_5 : decode cX8_game 5 = .ok (.aload_n 0, 1) := dk_42 (dk_at dksX8_game_0 5 rfl rfl)
theorem dX8_game_6 : decode cX8_game 6 = .ok (.iload_n 1, 1) := dk_27 (dk_at dksX8_game_0 6 rfl rfl)
theorem dX8_game_7 : decode cX8_game 7 = .ok (.invokevirtual 424, 3) := dk_182 1 168 (dk_at dksX8_game_0 7 rfl rfl)
theorem dX8_game_10 : decode cX8_game 10 = .ok (.ifCond .eq 12, 3) := dk_153 0 12 (dk_at dksX8_game_0 10 rfl rfl)
theorem dX8_game_13 : decode cX8_game 13 = .ok (.iload_n 2, 1) := dk_28 (dk_at dksX8_game_0 13 rfl rfl)
theorem dX8_game_14 : decode cX8_game 14 = .ok (.ifCond .lt 8, 3) := dk_155 0 8 (dk_at dksX8_game_0 14 rfl rfl)
theorem dX8_game_17 : decode cX8_game 17 = .ok (.iload_n 2, 1) := dk_28 (dk_at dksX8_game_0 17 rfl rfl)
theorem dX8_game_18 : decode cX8_game 18 = .ok (.iconst 1, 1) := dk_4 (dk_at dksX8_game_0 18 rfl rfl)
theorem dX8_game_19 : decode cX8_game 19 = .ok (.if_icmp .le 9, 3) := dk_164 0 9 (dk_at dksX8_game_0 19 rfl rfl)
theorem dX8_game_22 : decode cX8_game 22 = .ok (.aload_n 0, 1) := dk_42 (dk_at dksX8_game_0 22 rfl rfl)
theorem dX8_game_23 : decode cX8_game 23 = .ok (.iconst 1, 1) := dk_4 (dk_at dksX8_game_0 23 rfl rfl)
theorem dX8_game_24 : decode cX8_game 24 = .ok (.invokevirtual 298, 3) := dk_182 1 42 (dk_at dksX8_game_1 0 rfl rfl)
theorem dX8_game_27 : decode cX8_game 27 = .ok (.ireturn, 1) := dk_172 (dk_at dksX8_game_1 3 rfl rfl)
theorem dX8_game_28 : decode cX8_game 28 = .ok (.aload_n 0, 1) := dk_42 (dk_at dksX8_game_1 4 rfl rfl)
theorem dX8_game_29 : decode cX8_game 29 = .ok (.invokevirtual 410, 3) := dk_182 1 154 (dk_at dksX8_game_1 5 rfl rfl)
theorem dX8_game_32 : decode cX8_game 32 = .ok (.pop, 1) := dk_87 (dk_at dksX8_game_1 8 rfl rfl)
theorem dX8_game_33 : decode cX8_game 33 = .ok (.iconst 0, 1) := dk_3 (dk_at dksX8_game_1 9 rfl rfl)
theorem dX8_game_34 : decode cX8_game 34 = .ok (.istore_n 3, 1) := dk_62 (dk_at dksX8_game_1 10 rfl rfl)
theorem dX8_game_35 : decode cX8_game 35 = .ok (.iconst (-1), 1) := dk_2 (dk_at dksX8_game_1 11 rfl rfl)
theorem dX8_game_36 : decode cX8_game 36 = .ok (.istore 4, 2) := dk_54 4 (dk_at dksX8_game_1 12 rfl rfl)
theorem dX8_game_38 : decode cX8_game 38 = .ok (.iconst 0, 1) := dk_3 (dk_at dksX8_game_1 14 rfl rfl)
theorem dX8_game_39 : decode cX8_game 39 = .ok (.istore 5, 2) := dk_54 5 (dk_at dksX8_game_1 15 rfl rfl)
theorem dX8_game_41 : decode cX8_game 41 = .ok (.iload 5, 2) := dk_21 5 (dk_at dksX8_game_1 17 rfl rfl)
theorem dX8_game_43 : decode cX8_game 43 = .ok (.aload_n 0, 1) := dk_42 (dk_at dksX8_game_1 19 rfl rfl)
theorem dX8_game_44 : decode cX8_game 44 = .ok (.getfield 34, 3) := dk_180 0 34 (dk_at dksX8_game_1 20 rfl rfl)
theorem dX8_game_47 : decode cX8_game 47 = .ok (.iconst 4, 1) := dk_7 (dk_at dksX8_game_1 23 rfl rfl)
theorem dX8_game_48 : decode cX8_game 48 = .ok (.iaload, 1) := dk_46 (dk_at dksX8_game_2 0 rfl rfl)
theorem dX8_game_49 : decode cX8_game 49 = .ok (.if_icmp .ge 136, 3) := dk_162 0 136 (dk_at dksX8_game_2 1 rfl rfl)
theorem dX8_game_52 : decode cX8_game 52 = .ok (.iconst 0, 1) := dk_3 (dk_at dksX8_game_2 4 rfl rfl)
theorem dX8_game_53 : decode cX8_game 53 = .ok (.istore 6, 2) := dk_54 6 (dk_at dksX8_game_2 5 rfl rfl)
theorem dX8_game_55 : decode cX8_game 55 = .ok (.iload 6, 2) := dk_21 6 (dk_at dksX8_game_2 7 rfl rfl)
theorem dX8_game_57 : decode cX8_game 57 = .ok (.aload_n 0, 1) := dk_42 (dk_at dksX8_game_2 9 rfl rfl)
theorem dX8_game_58 : decode cX8_game 58 = .ok (.getfield 34, 3) := dk_180 0 34 (dk_at dksX8_game_2 10 rfl rfl)
theorem dX8_game_61 : decode cX8_game 61 = .ok (.iconst 4, 1) := dk_7 (dk_at dksX8_game_2 13 rfl rfl)
theorem dX8_game_62 : decode cX8_game 62 = .ok (.iaload, 1) := dk_46 (dk_at dksX8_game_2 14 rfl rfl)
theorem dX8_game_63 : decode cX8_game 63 = .ok (.if_icmp .ge 116, 3) := dk_162 0 116 (dk_at dksX8_game_2 15 rfl rfl)
theorem dX8_game_66 : decode cX8_game 66 = .ok (.aload_n 0, 1) := dk_42 (dk_at dksX8_game_2 18 rfl rfl)
theorem dX8_game_67 : decode cX8_game 67 = .ok (.iload_n 1, 1) := dk_27 (dk_at dksX8_game_2 19 rfl rfl)
theorem dX8_game_68 : decode cX8_game 68 = .ok (.iload 5, 2) := dk_21 5 (dk_at dksX8_game_2 20 rfl rfl)
theorem dX8_game_70 : decode cX8_game 70 = .ok (.iload 6, 2) := dk_21 6 (dk_at dksX8_game_2 22 rfl rfl)
theorem dX8_game_72 : decode cX8_game 72 = .ok (.invokevirtual 461, 3) := dk_182 1 205 (dk_at dksX8_game_3 0 rfl rfl)
theorem dX8_game_75 : decode cX8_game 75 = .ok (.istore 7, 2) := dk_54 7 (dk_at dksX8_game_3 3 rfl rfl)
theorem dX8_game_77 : decode cX8_game 77 = .ok (.iconst 1, 1) := dk_4 (dk_at dksX8_game_3 5 rfl rfl)
theorem dX8_game_78 : decode cX8_game 78 = .ok (.istore 8, 2) := dk_54 8 (dk_at dksX8_game_3 6 rfl rfl)
theorem dX8_game_80 : decode cX8_game 80 = .ok (.iconst 0, 1) := dk_3 (dk_at dksX8_game_3 8 rfl rfl)
theorem dX8_game_81 : decode cX8_game 81 = .ok (.istore 9, 2) := dk_54 9 (dk_at dksX8_game_3 9 rfl rfl)
theorem dX8_game_83 : decode cX8_game 83 = .ok (.iload 9, 2) := dk_21 9 (dk_at dksX8_game_3 11 rfl rfl)
theorem dX8_game_85 : decode cX8_game 85 = .ok (.aload_n 0, 1) := dk_42 (dk_at dksX8_game_3 13 rfl rfl)
theorem dX8_game_86 : decode cX8_game 86 = .ok (.getfield 34, 3) := dk_180 0 34 (dk_at dksX8_game_3 14 rfl rfl)
theorem dX8_game_89 : decode cX8_game 89 = .ok (.iconst 4, 1) := dk_7 (dk_at dksX8_game_3 17 rfl rfl)
theorem dX8_game_90 : decode cX8_game 90 = .ok (.iaload, 1) := dk_46 (dk_at dksX8_game_3 18 rfl rfl)
theorem dX8_game_91 : decode cX8_game 91 = .ok (.if_icmp .ge 50, 3) := dk_162 0 50 (dk_at dksX8_game_3 19 rfl rfl)
theorem dX8_game_94 : decode cX8_game 94 = .ok (.iload 8, 2) := dk_21 8 (dk_at dksX8_game_3 22 rfl rfl)
theorem dX8_game_96 : decode cX8_game 96 = .ok (.ifCond .eq 45, 3) := dk_153 0 45 (dk_at dksX8_game_4 0 rfl rfl)
theorem dX8_game_99 : decode cX8_game 99 = .ok (.iload 7, 2) := dk_21 7 (dk_at dksX8_game_4 3 rfl rfl)
theorem dX8_game_101 : decode cX8_game 101 = .ok (.ifCond .eq 15, 3) := dk_153 0 15 (dk_at dksX8_game_4 5 rfl rfl)
theorem dX8_game_104 : decode cX8_game 104 = .ok (.aload_n 0, 1) := dk_42 (dk_at dksX8_game_4 8 rfl rfl)
theorem dX8_game_105 : decode cX8_game 105 = .ok (.iload_n 1, 1) := dk_27 (dk_at dksX8_game_4 9 rfl rfl)
theorem dX8_game_106 : decode cX8_game 106 = .ok (.iload 5, 2) := dk_21 5 (dk_at dksX8_game_4 10 rfl rfl)
theorem dX8_game_108 : decode cX8_game 108 = .ok (.iload 9, 2) := dk_21 9 (dk_at dksX8_game_4 12 rfl rfl)
theorem dX8_game_110 : decode cX8_game 110 = .ok (.invokevirtual 461, 3) := dk_182 1 205 (dk_at dksX8_game_4 14 rfl rfl)
theorem dX8_game_113 : decode cX8_game 113 = .ok (.goto 20, 3) := dk_167 0 20 (dk_at dksX8_game_4 17 rfl rfl)
theorem dX8_game_116 : decode cX8_game 116 = .ok (.aload_n 0, 1) := dk_42 (dk_at dksX8_game_4 20 rfl rfl)
theorem dX8_game_117 : decode cX8_game 117 = .ok (.iload_n 1, 1) := dk_27 (dk_at dksX8_game_4 21 rfl rfl)
theorem dX8_game_118 : decode cX8_game 118 = .ok (.iload 9, 2) := dk_21 9 (dk_at dksX8_game_4 22 rfl rfl)
theorem dX8_game_120 : decode cX8_game 120 = .ok (.iload 6, 2) := dk_21 6 (dk_at dksX8_game_5 0 rfl rfl)
theorem dX8_game_122 : decode cX8_game 122 = .ok (.invokevirtual 461, 3) := dk_182 1 205 (dk_at dksX8_game_5 2 rfl rfl)
theorem dX8_game_125 : decode cX8_game 125 = .ok (.ifCond .ne 7, 3) := dk_154 0 7 (dk_at dksX8_game_5 5 rfl rfl)
theorem dX8_game_128 : decode cX8_game 128 = .ok (.iconst 1, 1) := dk_4 (dk_at dksX8_game_5 8 rfl rfl)
theorem dX8_game_129 : decode cX8_game 129 = .ok (.goto 4, 3) := dk_167 0 4 (dk_at dksX8_game_5 9 rfl rfl)
theorem dX8_game_132 : decode cX8_game 132 = .ok (.iconst 0, 1) := dk_3 (dk_at dksX8_game_5 12 rfl rfl)
theorem dX8_game_133 : decode cX8_game 133 = .ok (.istore 8, 2) := dk_54 8 (dk_at dksX8_game_5 13 rfl rfl)
theorem dX8_game_135 : decode cX8_game 135 = .ok (.iinc 9 1, 3) := dk_132 9 1 (dk_at dksX8_game_5 15 rfl rfl)
theorem dX8_game_138 : decode cX8_game 138 = .ok (.goto (-55), 3) := dk_167 255 201 (dk_at dksX8_game_5 18 rfl rfl)
theorem dX8_game_141 : decode cX8_game 141 = .ok (.iload 8, 2) := dk_21 8 (dk_at dksX8_game_5 21 rfl rfl)
theorem dX8_game_143 : decode cX8_game 143 = .ok (.ifCond .ne 6, 3) := dk_154 0 6 (dk_at dksX8_game_6 0 rfl rfl)
theorem dX8_game_146 : decode cX8_game 146 = .ok (.goto 27, 3) := dk_167 0 27 (dk_at dksX8_game_6 3 rfl rfl)
theorem dX8_game_149 : decode cX8_game 149 = .ok (.iinc 3 1, 3) := dk_132 3 1 (dk_at dksX8_game_6 6 rfl rfl)
theorem dX8_game_152 : decode cX8_game 152 = .ok (.iload 4, 2) := dk_21 4 (dk_at dksX8_game_6 9 rfl rfl)
theorem dX8_game_154 : decode cX8_game 154 = .ok (.iconst (-1), 1) := dk_2 (dk_at dksX8_game_6 11 rfl rfl)
theorem dX8_game_155 : decode cX8_game 155 = .ok (.if_icmp .ne 14, 3) := dk_160 0 14 (dk_at dksX8_game_6 12 rfl rfl)
theorem dX8_game_158 : decode cX8_game 158 = .ok (.bipush 10, 2) := dk_16 10 (dk_at dksX8_game_6 15 rfl rfl)
theorem dX8_game_160 : decode cX8_game 160 = .ok (.iload 5, 2) := dk_21 5 (dk_at dksX8_game_6 17 rfl rfl)
theorem dX8_game_162 : decode cX8_game 162 = .ok (.imul, 1) := dk_104 (dk_at dksX8_game_6 19 rfl rfl)
theorem dX8_game_163 : decode cX8_game 163 = .ok (.iload 6, 2) := dk_21 6 (dk_at dksX8_game_6 20 rfl rfl)
theorem dX8_game_165 : decode cX8_game 165 = .ok (.iadd, 1) := dk_96 (dk_at dksX8_game_6 22 rfl rfl)
theorem dX8_game_166 : decode cX8_game 166 = .ok (.goto 5, 3) := dk_167 0 5 (dk_at dksX8_game_7 0 rfl rfl)
theorem dX8_game_169 : decode cX8_game 169 = .ok (.iload 4, 2) := dk_21 4 (dk_at dksX8_game_7 3 rfl rfl)
theorem dX8_game_171 : decode cX8_game 171 = .ok (.istore 4, 2) := dk_54 4 (dk_at dksX8_game_7 5 rfl rfl)
theorem dX8_game_173 : decode cX8_game 173 = .ok (.iinc 6 1, 3) := dk_132 6 1 (dk_at dksX8_game_7 7 rfl rfl)
theorem dX8_game_176 : decode cX8_game 176 = .ok (.goto (-121), 3) := dk_167 255 135 (dk_at dksX8_game_7 10 rfl rfl)
theorem dX8_game_179 : decode cX8_game 179 = .ok (.iinc 5 1, 3) := dk_132 5 1 (dk_at dksX8_game_7 13 rfl rfl)
theorem dX8_game_182 : decode cX8_game 182 = .ok (.goto (-141), 3) := dk_167 255 115 (dk_at dksX8_game_7 16 rfl rfl)
theorem dX8_game_185 : decode cX8_game 185 = .ok (.iload_n 2, 1) := dk_28 (dk_at dksX8_game_7 19 rfl rfl)
theorem dX8_game_186 : decode cX8_game 186 = .ok (.ifCond .ne 7, 3) := dk_154 0 7 (dk_at dksX8_game_7 20 rfl rfl)
theorem dX8_game_189 : decode cX8_game 189 = .ok (.iload_n 3, 1) := dk_29 (dk_at dksX8_game_7 23 rfl rfl)
theorem dX8_game_190 : decode cX8_game 190 = .ok (.goto 5, 3) := dk_167 0 5 (dk_at dksX8_game_8 0 rfl rfl)
theorem dX8_game_193 : decode cX8_game 193 = .ok (.iload 4, 2) := dk_21 4 (dk_at dksX8_game_8 3 rfl rfl)
theorem dX8_game_195 : decode cX8_game 195 = .ok (.ireturn, 1) := dk_172 (dk_at dksX8_game_8 5 rfl rfl)
abbrev cX8_isGuiltyBy : ByteArray := prog_20_method_96_code
def yX8_isGuiltyBy : MethodName := ⟨RX8, "isGuiltyBy", "(III)Z"⟩
def dkwX8_isGuiltyBy_2 : List UInt8 := [18, 186, 162, 0, 7, 4, 167, 0, 4, 3, 172]
abbrev dktX8_isGuiltyBy_2 : List UInt8 := dkwX8_isGuiltyBy_2 ++ []
def dkwX8_isGuiltyBy_1 : List UInt8 := [4, 29, 120, 181, 1, 84, 42, 27, 182, 1, 145, 42, 21, 4, 181, 1, 87, 42, 180, 0, 117, 27, 46]
abbrev dktX8_isGuiltyBy_1 : List UInt8 := dkwX8_isGuiltyBy_1 ++ dktX8_isGuiltyBy_2
def dkwX8_isGuiltyBy_0 : List UInt8 := [42, 180, 1, 87, 54, 4, 42, 89, 180, 1, 87, 4, 28, 120, 128, 181, 1, 87, 42, 27, 181, 0, 103, 42]
abbrev dktX8_isGuiltyBy_0 : List UInt8 := dkwX8_isGuiltyBy_0 ++ dktX8_isGuiltyBy_1
theorem dksX8_isGuiltyBy_0 : cX8_isGuiltyBy.data.toList.drop 0 = dktX8_isGuiltyBy_0 := by decide +kernel
theorem dksX8_isGuiltyBy_1 : cX8_isGuiltyBy.data.toList.drop 24 = dktX8_isGuiltyBy_1 := dk_seg dksX8_isGuiltyBy_0 24 rfl rfl
theorem dksX8_isGuiltyBy_2 : cX8_isGuiltyBy.data.toList.drop 47 = dktX8_isGuiltyBy_2 := dk_seg dksX8_isGuiltyBy_1 23 rfl rfl
theorem dX8_isGuiltyBy_0 : decode cX8_isGuiltyBy 0 = .ok (.aload_n 0, 1) := dk_42 (dk_at dksX8_isGuiltyBy_0 0 rfl rfl)
theorem dX8_isGuiltyBy_1 : decode cX8_isGuiltyBy 1 = .ok (.getfield 343, 3) := dk_180 1 87 (dk_at dksX8_isGuiltyBy_0 1 rfl rfl)
theorem dX8_isGuiltyBy_4 : decode cX8_isGuiltyBy 4 = .ok (.istore 4, 2) := dk_54 4 (dk_at dksX8_isGuiltyBy_0 4 rfl rfl)
theorem dX8_isGuiltyBy_6 : decode cX8_isGuiltyBy 6 = .ok (.aload_n 0, 1) := dk_42 (dk_at dksX8_isGuiltyBy_0 6 rfl rfl)
theorem dX8_isGuiltyBy_7 : decode cX8_isGuiltyBy 7 = .ok (.dup, 1) := dk_89 (dk_at dksX8_isGuiltyBy_0 7 rfl rfl)
theorem dX8_isGuiltyBy_8 : decode cX8_isGuiltyBy 8 = .ok (.getfield 343, 3) := dk_180 1 87 (dk_at dksX8_isGuiltyBy_0 8 rfl rfl)
theorem dX8_isGuiltyBy_11 : decode cX8_isGuiltyBy 11 = .ok (.iconst 1, 1) := dk_4 (dk_at dksX8_isGuiltyBy_0 11 rfl rfl)
theorem dX8_isGuiltyBy_12 : decode cX8_isGuiltyBy 12 = .ok (.iload_n 2, 1) := dk_28 (dk_at dksX8_isGuiltyBy_0 12 rfl rfl)
theorem dX8_isGuiltyBy_13 : decode cX8_isGuiltyBy 13 = .ok (.ishl, 1) := dk_120 (dk_at dksX8_isGuiltyBy_0 13 rfl rfl)
theorem dX8_isGuiltyBy_14 : decode cX8_isGuiltyBy 14 = .ok (.ior, 1) := dk_128 (dk_at dksX8_isGuiltyBy_0 14 rfl rfl)
theorem dX8_isGuiltyBy_15 : decode cX8_isGuiltyBy 15 = .ok (.putfield 343, 3) := dk_181 1 87 (dk_at dksX8_isGuiltyBy_0 15 rfl rfl)
theorem dX8_isGuiltyBy_18 : decode cX8_isGuiltyBy 18 = .ok (.aload_n 0, 1) := dk_42 (dk_at dksX8_isGuiltyBy_0 18 rfl rfl)
theorem dX8_isGuiltyBy_19 : decode cX8_isGuiltyBy 19 = .ok (.iload_n 1, 1) := dk_27 (dk_at dksX8_isGuiltyBy_0 19 rfl rfl)
theorem dX8_isGuiltyBy_20 : decode cX8_isGuiltyBy 20 = .ok (.putfield 103, 3) := dk_181 0 103 (dk_at dksX8_isGuiltyBy_0 20 rfl rfl)
theorem dX8_isGuiltyBy_23 : decode cX8_isGuiltyBy 23 = .ok (.aload_n 0, 1) := dk_42 (dk_at dksX8_isGuiltyBy_0 23 rfl rfl)
theorem dX8_isGuiltyBy_24 : decode cX8_isGuiltyBy 24 = .ok (.iconst 1, 1) := dk_4 (dk_at dksX8_isGuiltyBy_1 0 rfl rfl)
theorem dX8_isGuiltyBy_25 : decode cX8_isGuiltyBy 25 = .ok (.iload_n 3, 1) := dk_29 (dk_at dksX8_isGuiltyBy_1 1 rfl rfl)
theorem dX8_isGuiltyBy_26 : decode cX8_isGuiltyBy 26 = .ok (.ishl, 1) := dk_120 (dk_at dksX8_isGuiltyBy_1 2 rfl rfl)
theorem dX8_isGuiltyBy_27 : decode cX8_isGuiltyBy 27 = .ok (.putfield 340, 3) := dk_181 1 84 (dk_at dksX8_isGuiltyBy_1 3 rfl rfl)
theorem dX8_isGuiltyBy_30 : decode cX8_isGuiltyBy 30 = .ok (.aload_n 0, 1) := dk_42 (dk_at dksX8_isGuiltyBy_1 6 rfl rfl)
theorem dX8_isGuiltyBy_31 : decode cX8_isGuiltyBy 31 = .ok (.iload_n 1, 1) := dk_27 (dk_at dksX8_isGuiltyBy_1 7 rfl rfl)
theorem dX8_isGuiltyBy_32 : decode cX8_isGuiltyBy 32 = .ok (.invokevirtual 401, 3) := dk_182 1 145 (dk_at dksX8_isGuiltyBy_1 8 rfl rfl)
theorem dX8_isGuiltyBy_35 : decode cX8_isGuiltyBy 35 = .ok (.aload_n 0, 1) := dk_42 (dk_at dksX8_isGuiltyBy_1 11 rfl rfl)
theorem dX8_isGuiltyBy_36 : decode cX8_isGuiltyBy 36 = .ok (.iload 4, 2) := dk_21 4 (dk_at dksX8_isGuiltyBy_1 12 rfl rfl)
theorem dX8_isGuiltyBy_38 : decode cX8_isGuiltyBy 38 = .ok (.putfield 343, 3) := dk_181 1 87 (dk_at dksX8_isGuiltyBy_1 14 rfl rfl)
theorem dX8_isGuiltyBy_41 : decode cX8_isGuiltyBy 41 = .ok (.aload_n 0, 1) := dk_42 (dk_at dksX8_isGuiltyBy_1 17 rfl rfl)
theorem dX8_isGuiltyBy_42 : decode cX8_isGuiltyBy 42 = .ok (.getfield 117, 3) := dk_180 0 117 (dk_at dksX8_isGuiltyBy_1 18 rfl rfl)
theorem dX8_isGuiltyBy_45 : decode cX8_isGuiltyBy 45 = .ok (.iload_n 1, 1) := dk_27 (dk_at dksX8_isGuiltyBy_1 21 rfl rfl)
theorem dX8_isGuiltyBy_46 : decode cX8_isGuiltyBy 46 = .ok (.iaload, 1) := dk_46 (dk_at dksX8_isGuiltyBy_1 22 rfl rfl)
theorem dX8_isGuiltyBy_47 : decode cX8_isGuiltyBy 47 = .ok (.ldc 186, 2) := dk_18 186 (dk_at dksX8_isGuiltyBy_2 0 rfl rfl)
theorem dX8_isGuiltyBy_49 : decode cX8_isGuiltyBy 49 = .ok (.if_icmp .ge 7, 3) := dk_162 0 7 (dk_at dksX8_isGuiltyBy_2 2 rfl rfl)
theorem dX8_isGuiltyBy_52 : decode cX8_isGuiltyBy 52 = .ok (.iconst 1, 1) := dk_4 (dk_at dksX8_isGuiltyBy_2 5 rfl rfl)
theorem dX8_isGuiltyBy_53 : decode cX8_isGuiltyBy 53 = .ok (.goto 4, 3) := dk_167 0 4 (dk_at dksX8_isGuiltyBy_2 6 rfl rfl)
theorem dX8_isGuiltyBy_56 : decode cX8_isGuiltyBy 56 = .ok (.iconst 0, 1) := dk_3 (dk_at dksX8_isGuiltyBy_2 9 rfl rfl)
theorem dX8_isGuiltyBy_57 : decode cX8_isGuiltyBy 57 = .ok (.ireturn, 1) := dk_172 (dk_at dksX8_isGuiltyBy_2 10 rfl rfl)
abbrev cX8_season : ByteArray := prog_20_method_99_code
def yX8_season : MethodName := ⟨RX8, "season", "(III)I"⟩
def dkwX8_season_10 : List UInt8 := [172]
abbrev dktX8_season_10 : List UInt8 := dkwX8_season_10 ++ []
def dkwX8_season_9 : List UInt8 := [167, 255, 113, 29, 154, 0, 8, 21, 4, 167, 0, 15, 29, 4, 160, 0, 8, 21, 5, 167, 0, 5, 21, 6]
abbrev dktX8_season_9 : List UInt8 := dkwX8_season_9 ++ dktX8_season_10
def dkwX8_season_8 : List UInt8 := [21, 6, 21, 9, 42, 180, 0, 34, 8, 46, 160, 0, 7, 4, 167, 0, 4, 3, 96, 54, 6, 132, 8, 1]
abbrev dktX8_season_8 : List UInt8 := dkwX8_season_8 ++ dktX8_season_9
def dkwX8_season_7 : List UInt8 := [21, 9, 96, 54, 4, 21, 8, 154, 0, 8, 21, 9, 167, 0, 10, 21, 5, 21, 9, 184, 0, 187, 54, 5]
abbrev dktX8_season_7 : List UInt8 := dkwX8_season_7 ++ dktX8_season_8
def dkwX8_season_6 : List UInt8 := [181, 1, 64, 132, 9, 1, 167, 255, 187, 42, 182, 1, 151, 54, 9, 42, 21, 7, 181, 1, 64, 21, 4]
abbrev dktX8_season_6 : List UInt8 := dkwX8_season_6 ++ dktX8_season_7
def dkwX8_season_5 : List UInt8 := [180, 1, 64, 21, 10, 21, 11, 42, 16, 6, 182, 1, 214, 184, 1, 187, 42, 89, 180, 1, 64, 4, 96]
abbrev dktX8_season_5 : List UInt8 := dkwX8_season_5 ++ dktX8_season_6
def dkwX8_season_4 : List UInt8 := [180, 0, 34, 3, 46, 182, 1, 214, 54, 10, 42, 16, 30, 182, 1, 214, 54, 11, 42, 180, 0, 79, 42]
abbrev dktX8_season_4 : List UInt8 := dkwX8_season_4 ++ dktX8_season_5
def dkwX8_season_3 : List UInt8 := [162, 0, 143, 3, 54, 9, 21, 9, 5, 162, 0, 69, 42, 180, 0, 34, 3, 46, 158, 0, 60, 42, 42]
abbrev dktX8_season_3 : List UInt8 := dkwX8_season_3 ++ dktX8_season_4
def dkwX8_season_2 : List UInt8 := [181, 1, 208, 3, 54, 4, 3, 54, 5, 3, 54, 6, 42, 180, 1, 64, 54, 7, 3, 54, 8, 21, 8, 28]
abbrev dktX8_season_2 : List UInt8 := dkwX8_season_2 ++ dktX8_season_3
def dkwX8_season_1 : List UInt8 := [133, 9, 20, 1, 212, 184, 0, 153, 154, 0, 9, 42, 5, 182, 1, 42, 172, 42, 182, 1, 148, 42, 27]
abbrev dktX8_season_1 : List UInt8 := dkwX8_season_1 ++ dktX8_season_2
def dkwX8_season_0 : List UInt8 := [42, 3, 181, 0, 150, 29, 133, 9, 20, 1, 199, 184, 0, 153, 154, 0, 9, 42, 4, 182, 1, 42, 172, 28]
abbrev dktX8_season_0 : List UInt8 := dkwX8_season_0 ++ dktX8_season_1
theorem dksX8_season_0 : cX8_season.data.toList.drop 0 = dktX8_season_0 := by decide +kernel
theorem dksX8_season_1 : cX8_season.data.toList.drop 24 = dktX8_season_1 := dk_seg dksX8_season_0 24 rfl rfl
theorem dksX8_season_2 : cX8_season.data.toList.drop 47 = dktX8_season_2 := dk_seg dksX8_season_1 23 rfl rfl
theorem dksX8_season_3 : cX8_season.data.toList.drop 71 = dktX8_season_3 := dk_seg dksX8_season_2 24 rfl rfl
theorem dksX8_season_4 : cX8_season.data.toList.drop 94 = dktX8_season_4 := dk_seg dksX8_season_3 23 rfl rfl
theorem dksX8_season_5 : cX8_season.data.toList.drop 117 = dktX8_season_5 := dk_seg dksX8_season_4 23 rfl rfl
theorem dksX8_season_6 : cX8_season.data.toList.drop 140 = dktX8_season_6 := dk_seg dksX8_season_5 23 rfl rfl
theorem dksX8_season_7 : cX8_season.data.toList.drop 163 = dktX8_season_7 := dk_seg dksX8_season_6 23 rfl rfl
theorem dksX8_season_8 : cX8_season.data.toList.drop 187 = dktX8_season_8 := dk_seg dksX8_season_7 24 rfl rfl
theorem dksX8_season_9 : cX8_season.data.toList.drop 211 = dktX8_season_9 := dk_seg dksX8_season_8 24 rfl rfl
theorem dksX8_season_10 : cX8_season.data.toList.drop 235 = dktX8_season_10 := dk_seg dksX8_season_9 24 rfl rfl
theorem dX8_season_0 : decode cX8_season 0 = .ok (.aload_n 0, 1) := dk_42 (dk_at dksX8_season_0 0 rfl rfl)
theorem dX8_season_1 : decode cX8_season 1 = .ok (.iconst 0, 1) := dk_3 (dk_at dksX8_season_0 1 rfl rfl)
theorem dX8_season_2 : decode cX8_season 2 = .ok (.putfield 150, 3) := dk_181 0 150 (dk_at dksX8_season_0 2 rfl rfl)
theorem dX8_season_5 : decode cX8_season 5 = .ok (.iload_n 3, 1) := dk_29 (dk_at dksX8_season_0 5 rfl rfl)
theorem dX8_season_6 : decode cX8_season 6 = .ok (.i2l, 1) := dk_133 (dk_at dksX8_season_0 6 rfl rfl)
theorem dX8_season_7 : decode cX8_season 7 = .ok (.lconst 0, 1) := dk_9 (dk_at dksX8_season_0 7 rfl rfl)
theorem dX8_season_8 : decode cX8_season 8 = .ok (.ldc2_w 455, 3) := dk_20 1 199 (dk_at dksX8_season_0 8 rfl rfl)
theorem dX8_season_11 : decode cX8_season 11 = .ok (.invokestatic 153, 3) := dk_184 0 153 (dk_at dksX8_season_0 11 rfl rfl)
theorem dX8_season_14 : decode cX8_season 14 = .ok (.ifCond .ne 9, 3) := dk_154 0 9 (dk_at dksX8_season_0 14 rfl rfl)
theorem dX8_season_17 : decode cX8_season 17 = .ok (.aload_n 0, 1) := dk_42 (dk_at dksX8_season_0 17 rfl rfl)
theorem dX8_season_18 : decode cX8_season 18 = .ok (.iconst 1, 1) := dk_4 (dk_at dksX8_season_0 18 rfl rfl)
theorem dX8_season_19 : decode cX8_season 19 = .ok (.invokevirtual 298, 3) := dk_182 1 42 (dk_at dksX8_season_0 19 rfl rfl)
theorem dX8_season_22 : decode cX8_season 22 = .ok (.ireturn, 1) := dk_172 (dk_at dksX8_season_0 22 rfl rfl)
theorem dX8_season_23 : decode cX8_season 23 = .ok (.iload_n 2, 1) := dk_28 (dk_at dksX8_season_0 23 rfl rfl)
theorem dX8_season_24 : decode cX8_season 24 = .ok (.i2l, 1) := dk_133 (dk_at dksX8_season_1 0 rfl rfl)
theorem dX8_season_25 : decode cX8_season 25 = .ok (.lconst 0, 1) := dk_9 (dk_at dksX8_season_1 1 rfl rfl)
theorem dX8_season_26 : decode cX8_season 26 = .ok (.ldc2_w 468, 3) := dk_20 1 212 (dk_at dksX8_season_1 2 rfl rfl)
theorem dX8_season_29 : decode cX8_season 29 = .ok (.invokestatic 153, 3) := dk_184 0 153 (dk_at dksX8_season_1 5 rfl rfl)
theorem dX8_season_32 : decode cX8_season 32 = .ok (.ifCond .ne 9, 3) := dk_154 0 9 (dk_at dksX8_season_1 8 rfl rfl)
theorem dX8_season_35 : decode cX8_season 35 = .ok (.aload_n 0, 1) := dk_42 (dk_at dksX8_season_1 11 rfl rfl)
theorem dX8_season_36 : decode cX8_season 36 = .ok (.iconst 2, 1) := dk_5 (dk_at dksX8_season_1 12 rfl rfl)
theorem dX8_season_37 : decode cX8_season 37 = .ok (.invokevirtual 298, 3) := dk_182 1 42 (dk_at dksX8_season_1 13 rfl rfl)
theorem dX8_season_40 : decode cX8_season 40 = .ok (.ireturn, 1) := dk_172 (dk_at dksX8_season_1 16 rfl rfl)
theorem dX8_season_41 : decode cX8_season 41 = .ok (.aload_n 0, 1) := dk_42 (dk_at dksX8_season_1 17 rfl rfl)
theorem dX8_season_42 : decode cX8_season 42 = .ok (.invokevirtual 404, 3) := dk_182 1 148 (dk_at dksX8_season_1 18 rfl rfl)
theorem dX8_season_45 : decode cX8_season 45 = .ok (.aload_n 0, 1) := dk_42 (dk_at dksX8_season_1 21 rfl rfl)
theorem dX8_season_46 : decode cX8_season 46 = .ok (.iload_n 1, 1) := dk_27 (dk_at dksX8_season_1 22 rfl rfl)
theorem dX8_season_47 : decode cX8_season 47 = .ok (.putfield 464, 3) := dk_181 1 208 (dk_at dksX8_season_2 0 rfl rfl)
theorem dX8_season_50 : decode cX8_season 50 = .ok (.iconst 0, 1) := dk_3 (dk_at dksX8_season_2 3 rfl rfl)
theorem dX8_season_51 : decode cX8_season 51 = .ok (.istore 4, 2) := dk_54 4 (dk_at dksX8_season_2 4 rfl rfl)
theorem dX8_season_53 : decode cX8_season 53 = .ok (.iconst 0, 1) := dk_3 (dk_at dksX8_season_2 6 rfl rfl)
theorem dX8_season_54 : decode cX8_season 54 = .ok (.istore 5, 2) := dk_54 5 (dk_at dksX8_season_2 7 rfl rfl)
theorem dX8_season_56 : decode cX8_season 56 = .ok (.iconst 0, 1) := dk_3 (dk_at dksX8_season_2 9 rfl rfl)
theorem dX8_season_57 : decode cX8_season 57 = .ok (.istore 6, 2) := dk_54 6 (dk_at dksX8_season_2 10 rfl rfl)
theorem dX8_season_59 : decode cX8_season 59 = .ok (.aload_n 0, 1) := dk_42 (dk_at dksX8_season_2 12 rfl rfl)
theorem dX8_season_60 : decode cX8_season 60 = .ok (.getfield 320, 3) := dk_180 1 64 (dk_at dksX8_season_2 13 rfl rfl)
theorem dX8_season_63 : decode cX8_season 63 = .ok (.istore 7, 2) := dk_54 7 (dk_at dksX8_season_2 16 rfl rfl)
theorem dX8_season_65 : decode cX8_season 65 = .ok (.iconst 0, 1) := dk_3 (dk_at dksX8_season_2 18 rfl rfl)
theorem dX8_season_66 : decode cX8_season 66 = .ok (.istore 8, 2) := dk_54 8 (dk_at dksX8_season_2 19 rfl rfl)
theorem dX8_season_68 : decode cX8_season 68 = .ok (.iload 8, 2) := dk_21 8 (dk_at dksX8_season_2 21 rfl rfl)
theorem dX8_season_70 : decode cX8_season 70 = .ok (.iload_n 2, 1) := dk_28 (dk_at dksX8_season_2 23 rfl rfl)
theorem dX8_season_71 : decode cX8_season 71 = .ok (.if_icmp .ge 143, 3) := dk_162 0 143 (dk_at dksX8_season_3 0 rfl rfl)
theorem dX8_season_74 : decode cX8_season 74 = .ok (.iconst 0, 1) := dk_3 (dk_at dksX8_season_3 3 rfl rfl)
theorem dX8_season_75 : decode cX8_season 75 = .ok (.istore 9, 2) := dk_54 9 (dk_at dksX8_season_3 4 rfl rfl)
theorem dX8_season_77 : decode cX8_season 77 = .ok (.iload 9, 2) := dk_21 9 (dk_at dksX8_season_3 6 rfl rfl)
theorem dX8_season_79 : decode cX8_season 79 = .ok (.iconst 2, 1) := dk_5 (dk_at dksX8_season_3 8 rfl rfl)
theorem dX8_season_80 : decode cX8_season 80 = .ok (.if_icmp .ge 69, 3) := dk_162 0 69 (dk_at dksX8_season_3 9 rfl rfl)
theorem dX8_season_83 : decode cX8_season 83 = .ok (.aload_n 0, 1) := dk_42 (dk_at dksX8_season_3 12 rfl rfl)
theorem dX8_season_84 : decode cX8_season 84 = .ok (.getfield 34, 3) := dk_180 0 34 (dk_at dksX8_season_3 13 rfl rfl)
theorem dX8_season_87 : decode cX8_season 87 = .ok (.iconst 0, 1) := dk_3 (dk_at dksX8_season_3 16 rfl rfl)
theorem dX8_season_88 : decode cX8_season 88 = .ok (.iaload, 1) := dk_46 (dk_at dksX8_season_3 17 rfl rfl)
theorem dX8_season_89 : decode cX8_season 89 = .ok (.ifCond .le 60, 3) := dk_158 0 60 (dk_at dksX8_season_3 18 rfl rfl)
theorem dX8_season_92 : decode cX8_season 92 = .ok (.aload_n 0, 1) := dk_42 (dk_at dksX8_season_3 21 rfl rfl)
theorem dX8_season_93 : decode cX8_season 93 = .ok (.aload_n 0, 1) := dk_42 (dk_at dksX8_season_3 22 rfl rfl)
theorem dX8_season_94 : decode cX8_season 94 = .ok (.getfield 34, 3) := dk_180 0 34 (dk_at dksX8_season_4 0 rfl rfl)
theorem dX8_season_97 : decode cX8_season 97 = .ok (.iconst 0, 1) := dk_3 (dk_at dksX8_season_4 3 rfl rfl)
theorem dX8_season_98 : decode cX8_season 98 = .ok (.iaload, 1) := dk_46 (dk_at dksX8_season_4 4 rfl rfl)
theorem dX8_season_99 : decode cX8_season 99 = .ok (.invokevirtual 470, 3) := dk_182 1 214 (dk_at dksX8_season_4 5 rfl rfl)
theorem dX8_season_102 : decode cX8_season 102 = .ok (.istore 10, 2) := dk_54 10 (dk_at dksX8_season_4 8 rfl rfl)
theorem dX8_season_104 : decode cX8_season 104 = .ok (.aload_n 0, 1) := dk_42 (dk_at dksX8_season_4 10 rfl rfl)
theorem dX8_season_105 : decode cX8_season 105 = .ok (.bipush 30, 2) := dk_16 30 (dk_at dksX8_season_4 11 rfl rfl)
theorem dX8_season_107 : decode cX8_season 107 = .ok (.invokevirtual 470, 3) := dk_182 1 214 (dk_at dksX8_season_4 13 rfl rfl)
theorem dX8_season_110 : decode cX8_season 110 = .ok (.istore 11, 2) := dk_54 11 (dk_at dksX8_season_4 16 rfl rfl)
theorem dX8_season_112 : decode cX8_season 112 = .ok (.aload_n 0, 1) := dk_42 (dk_at dksX8_season_4 18 rfl rfl)
theorem dX8_season_113 : decode cX8_season 113 = .ok (.getfield 79, 3) := dk_180 0 79 (dk_at dksX8_season_4 19 rfl rfl)
theorem dX8_season_116 : decode cX8_season 116 = .ok (.aload_n 0, 1) := dk_42 (dk_at dksX8_season_4 22 rfl rfl)
theorem dX8_season_117 : decode cX8_season 117 = .ok (.getfield 320, 3) := dk_180 1 64 (dk_at dksX8_season_5 0 rfl rfl)
theorem dX8_season_120 : decode cX8_season 120 = .ok (.iload 10, 2) := dk_21 10 (dk_at dksX8_season_5 3 rfl rfl)
theorem dX8_season_122 : decode cX8_season 122 = .ok (.iload 11, 2) := dk_21 11 (dk_at dksX8_season_5 5 rfl rfl)
theorem dX8_season_124 : decode cX8_season 124 = .ok (.aload_n 0, 1) := dk_42 (dk_at dksX8_season_5 7 rfl rfl)
theorem dX8_season_125 : decode cX8_season 125 = .ok (.bipush 6, 2) := dk_16 6 (dk_at dksX8_season_5 8 rfl rfl)
theorem dX8_season_127 : decode cX8_season 127 = .ok (.invokevirtual 470, 3) := dk_182 1 214 (dk_at dksX8_season_5 10 rfl rfl)
theorem dX8_season_130 : decode cX8_season 130 = .ok (.invokestatic 443, 3) := dk_184 1 187 (dk_at dksX8_season_5 13 rfl rfl)
theorem dX8_season_133 : decode cX8_season 133 = .ok (.aload_n 0, 1) := dk_42 (dk_at dksX8_season_5 16 rfl rfl)
theorem dX8_season_134 : decode cX8_season 134 = .ok (.dup, 1) := dk_89 (dk_at dksX8_season_5 17 rfl rfl)
theorem dX8_season_135 : decode cX8_season 135 = .ok (.getfield 320, 3) := dk_180 1 64 (dk_at dksX8_season_5 18 rfl rfl)
theorem dX8_season_138 : decode cX8_season 138 = .ok (.iconst 1, 1) := dk_4 (dk_at dksX8_season_5 21 rfl rfl)
theorem dX8_season_139 : decode cX8_season 139 = .ok (.iadd, 1) := dk_96 (dk_at dksX8_season_5 22 rfl rfl)
theorem dX8_season_140 : decode cX8_season 140 = .ok (.putfield 320, 3) := dk_181 1 64 (dk_at dksX8_season_6 0 rfl rfl)
theorem dX8_season_143 : decode cX8_season 143 = .ok (.iinc 9 1, 3) := dk_132 9 1 (dk_at dksX8_season_6 3 rfl rfl)
theorem dX8_season_146 : decode cX8_season 146 = .ok (.goto (-69), 3) := dk_167 255 187 (dk_at dksX8_season_6 6 rfl rfl)
theorem dX8_season_149 : decode cX8_season 149 = .ok (.aload_n 0, 1) := dk_42 (dk_at dksX8_season_6 9 rfl rfl)
theorem dX8_season_150 : decode cX8_season 150 = .ok (.invokevirtual 407, 3) := dk_182 1 151 (dk_at dksX8_season_6 10 rfl rfl)
theorem dX8_season_153 : decode cX8_season 153 = .ok (.istore 9, 2) := dk_54 9 (dk_at dksX8_season_6 13 rfl rfl)
theorem dX8_season_155 : decode cX8_season 155 = .ok (.aload_n 0, 1) := dk_42 (dk_at dksX8_season_6 15 rfl rfl)
theorem dX8_season_156 : decode cX8_season 156 = .ok (.iload 7, 2) := dk_21 7 (dk_at dksX8_season_6 16 rfl rfl)
theorem dX8_season_158 : decode cX8_season 158 = .ok (.putfield 320, 3) := dk_181 1 64 (dk_at dksX8_season_6 18 rfl rfl)
theorem dX8_season_161 : decode cX8_season 161 = .ok (.iload 4, 2) := dk_21 4 (dk_at dksX8_season_6 21 rfl rfl)
theorem dX8_season_163 : decode cX8_season 163 = .ok (.iload 9, 2) := dk_21 9 (dk_at dksX8_season_7 0 rfl rfl)
theorem dX8_season_165 : decode cX8_season 165 = .ok (.iadd, 1) := dk_96 (dk_at dksX8_season_7 2 rfl rfl)
theorem dX8_season_166 : decode cX8_season 166 = .ok (.istore 4, 2) := dk_54 4 (dk_at dksX8_season_7 3 rfl rfl)
theorem dX8_season_168 : decode cX8_season 168 = .ok (.iload 8, 2) := dk_21 8 (dk_at dksX8_season_7 5 rfl rfl)
theorem dX8_season_170 : decode cX8_season 170 = .ok (.ifCond .ne 8, 3) := dk_154 0 8 (dk_at dksX8_season_7 7 rfl rfl)
theorem dX8_season_173 : decode cX8_season 173 = .ok (.iload 9, 2) := dk_21 9 (dk_at dksX8_season_7 10 rfl rfl)
theorem dX8_season_175 : decode cX8_season 175 = .ok (.goto 10, 3) := dk_167 0 10 (dk_at dksX8_season_7 12 rfl rfl)
theorem dX8_season_178 : decode cX8_season 178 = .ok (.iload 5, 2) := dk_21 5 (dk_at dksX8_season_7 15 rfl rfl)
theorem dX8_season_180 : decode cX8_season 180 = .ok (.iload 9, 2) := dk_21 9 (dk_at dksX8_season_7 17 rfl rfl)
theorem dX8_season_182 : decode cX8_season 182 = .ok (.invokestatic 187, 3) := dk_184 0 187 (dk_at dksX8_season_7 19 rfl rfl)
theorem dX8_season_185 : decode cX8_season 185 = .ok (.istore 5, 2) := dk_54 5 (dk_at dksX8_season_7 22 rfl rfl)
theorem dX8_season_187 : decode cX8_season 187 = .ok (.iload 6, 2) := dk_21 6 (dk_at dksX8_season_8 0 rfl rfl)
theorem dX8_season_189 : decode cX8_season 189 = .ok (.iload 9, 2) := dk_21 9 (dk_at dksX8_season_8 2 rfl rfl)
theorem dX8_season_191 : decode cX8_season 191 = .ok (.aload_n 0, 1) := dk_42 (dk_at dksX8_season_8 4 rfl rfl)
theorem dX8_season_192 : decode cX8_season 192 = .ok (.getfield 34, 3) := dk_180 0 34 (dk_at dksX8_season_8 5 rfl rfl)
theorem dX8_season_195 : decode cX8_season 195 = .ok (.iconst 5, 1) := dk_8 (dk_at dksX8_season_8 8 rfl rfl)
theorem dX8_season_196 : decode cX8_season 196 = .ok (.iaload, 1) := dk_46 (dk_at dksX8_season_8 9 rfl rfl)
theorem dX8_season_197 : decode cX8_season 197 = .ok (.if_icmp .ne 7, 3) := dk_160 0 7 (dk_at dksX8_season_8 10 rfl rfl)
theorem dX8_season_200 : decode cX8_season 200 = .ok (.iconst 1, 1) := dk_4 (dk_at dksX8_season_8 13 rfl rfl)
theorem dX8_season_201 : decode cX8_season 201 = .ok (.goto 4, 3) := dk_167 0 4 (dk_at dksX8_season_8 14 rfl rfl)
theorem dX8_season_204 : decode cX8_season 204 = .ok (.iconst 0, 1) := dk_3 (dk_at dksX8_season_8 17 rfl rfl)
theorem dX8_season_205 : decode cX8_season 205 = .ok (.iadd, 1) := dk_96 (dk_at dksX8_season_8 18 rfl rfl)
theorem dX8_season_206 : decode cX8_season 206 = .ok (.istore 6, 2) := dk_54 6 (dk_at dksX8_season_8 19 rfl rfl)
theorem dX8_season_208 : decode cX8_season 208 = .ok (.iinc 8 1, 3) := dk_132 8 1 (dk_at dksX8_season_8 21 rfl rfl)
theorem dX8_season_211 : decode cX8_season 211 = .ok (.goto (-143), 3) := dk_167 255 113 (dk_at dksX8_season_9 0 rfl rfl)
theorem dX8_season_214 : decode cX8_season 214 = .ok (.iload_n 3, 1) := dk_29 (dk_at dksX8_season_9 3 rfl rfl)
theorem dX8_season_215 : decode cX8_season 215 = .ok (.ifCond .ne 8, 3) := dk_154 0 8 (dk_at dksX8_season_9 4 rfl rfl)
theorem dX8_season_218 : decode cX8_season 218 = .ok (.iload 4, 2) := dk_21 4 (dk_at dksX8_season_9 7 rfl rfl)
theorem dX8_season_220 : decode cX8_season 220 = .ok (.goto 15, 3) := dk_167 0 15 (dk_at dksX8_season_9 9 rfl rfl)
theorem dX8_season_223 : decode cX8_season 223 = .ok (.iload_n 3, 1) := dk_29 (dk_at dksX8_season_9 12 rfl rfl)
theorem dX8_season_224 : decode cX8_season 224 = .ok (.iconst 1, 1) := dk_4 (dk_at dksX8_season_9 13 rfl rfl)
theorem dX8_season_225 : decode cX8_season 225 = .ok (.if_icmp .ne 8, 3) := dk_160 0 8 (dk_at dksX8_season_9 14 rfl rfl)
theorem dX8_season_228 : decode cX8_season 228 = .ok (.iload 5, 2) := dk_21 5 (dk_at dksX8_season_9 17 rfl rfl)
theorem dX8_season_230 : decode cX8_season 230 = .ok (.goto 5, 3) := dk_167 0 5 (dk_at dksX8_season_9 19 rfl rfl)
theorem dX8_season_233 : decode cX8_season 233 = .ok (.iload 6, 2) := dk_21 6 (dk_at dksX8_season_9 22 rfl rfl)
theorem dX8_season_235 : decode cX8_season 235 = .ok (.ireturn, 1) := dk_172 (dk_at dksX8_season_10 0 rfl rfl)
abbrev cX8_drawOf : ByteArray := prog_20_method_98_code
def yX8_drawOf : MethodName := ⟨RX8, "drawOf", "(I)I"⟩
def dkwX8_drawOf_1 : List UInt8 := [17, 127, 255, 126, 27, 112, 172]
abbrev dktX8_drawOf_1 : List UInt8 := dkwX8_drawOf_1 ++ []
def dkwX8_drawOf_0 : List UInt8 := [42, 42, 180, 1, 208, 19, 1, 211, 104, 17, 48, 57, 96, 181, 1, 208, 42, 180, 1, 208, 16, 16, 122]
abbrev dktX8_drawOf_0 : List UInt8 := dkwX8_drawOf_0 ++ dktX8_drawOf_1
theorem dksX8_drawOf_0 : cX8_drawOf.data.toList.drop 0 = dktX8_drawOf_0 := by decide +kernel
theorem dksX8_drawOf_1 : cX8_drawOf.data.toList.drop 23 = dktX8_drawOf_1 := dk_seg dksX8_drawOf_0 23 rfl rfl
theorem dX8_drawOf_0 : decode cX8_drawOf 0 = .ok (.aload_n 0, 1) := dk_42 (dk_at dksX8_drawOf_0 0 rfl rfl)
theorem dX8_drawOf_1 : decode cX8_drawOf 1 = .ok (.aload_n 0, 1) := dk_42 (dk_at dksX8_drawOf_0 1 rfl rfl)
theorem dX8_drawOf_2 : decode cX8_drawOf 2 = .ok (.getfield 464, 3) := dk_180 1 208 (dk_at dksX8_drawOf_0 2 rfl rfl)
theorem dX8_drawOf_5 : decode cX8_drawOf 5 = .ok (.ldc_w 467, 3) := dk_19 1 211 (dk_at dksX8_drawOf_0 5 rfl rfl)
theorem dX8_drawOf_8 : decode cX8_drawOf 8 = .ok (.imul, 1) := dk_104 (dk_at dksX8_drawOf_0 8 rfl rfl)
theorem dX8_drawOf_9 : decode cX8_drawOf 9 = .ok (.sipush 12345, 3) := dk_17 48 57 (dk_at dksX8_drawOf_0 9 rfl rfl)
theorem dX8_drawOf_12 : decode cX8_drawOf 12 = .ok (.iadd, 1) := dk_96 (dk_at dksX8_drawOf_0 12 rfl rfl)
theorem dX8_drawOf_13 : decode cX8_drawOf 13 = .ok (.putfield 464, 3) := dk_181 1 208 (dk_at dksX8_drawOf_0 13 rfl rfl)
theorem dX8_drawOf_16 : decode cX8_drawOf 16 = .ok (.aload_n 0, 1) := dk_42 (dk_at dksX8_drawOf_0 16 rfl rfl)
theorem dX8_drawOf_17 : decode cX8_drawOf 17 = .ok (.getfield 464, 3) := dk_180 1 208 (dk_at dksX8_drawOf_0 17 rfl rfl)
theorem dX8_drawOf_20 : decode cX8_drawOf 20 = .ok (.bipush 16, 2) := dk_16 16 (dk_at dksX8_drawOf_0 20 rfl rfl)
theorem dX8_drawOf_22 : decode cX8_drawOf 22 = .ok (.ishr, 1) := dk_122 (dk_at dksX8_drawOf_0 22 rfl rfl)
theorem dX8_drawOf_23 : decode cX8_drawOf 23 = .ok (.sipush 32767, 3) := dk_17 127 255 (dk_at dksX8_drawOf_1 0 rfl rfl)
theorem dX8_drawOf_26 : decode cX8_drawOf 26 = .ok (.iand, 1) := dk_126 (dk_at dksX8_drawOf_1 3 rfl rfl)
theorem dX8_drawOf_27 : decode cX8_drawOf 27 = .ok (.iload_n 1, 1) := dk_27 (dk_at dksX8_drawOf_1 4 rfl rfl)
theorem dX8_drawOf_28 : decode cX8_drawOf 28 = .ok (.irem, 1) := dk_112 (dk_at dksX8_drawOf_1 5 rfl rfl)
theorem dX8_drawOf_29 : decode cX8_drawOf 29 = .ok (.ireturn, 1) := dk_172 (dk_at dksX8_drawOf_1 6 rfl rfl)
abbrev cX8_image : ByteArray := prog_20_method_101_code
def yX8_image : MethodName := ⟨RX8, "image", "()V"⟩
def dkwX8_image_3 : List UInt8 := [180, 0, 144, 42, 180, 0, 129, 184, 1, 223, 42, 180, 0, 147, 42, 180, 0, 60, 184, 1, 223, 177]
abbrev dktX8_image_3 : List UInt8 := dkwX8_image_3 ++ []
def dkwX8_image_2 : List UInt8 := [180, 0, 138, 42, 180, 0, 123, 184, 1, 223, 42, 180, 0, 141, 42, 180, 0, 126, 184, 1, 223, 42]
abbrev dktX8_image_2 : List UInt8 := dkwX8_image_2 ++ dktX8_image_3
def dkwX8_image_1 : List UInt8 := [181, 1, 220, 42, 42, 180, 0, 132, 3, 182, 1, 173, 42, 180, 0, 135, 42, 180, 0, 82, 184, 1, 223, 42]
abbrev dktX8_image_1 : List UInt8 := dkwX8_image_1 ++ dktX8_image_2
def dkwX8_image_0 : List UInt8 := [42, 3, 181, 0, 150, 42, 4, 181, 1, 73, 42, 42, 180, 1, 67, 181, 1, 217, 42, 42, 180, 1, 70]
abbrev dktX8_image_0 : List UInt8 := dkwX8_image_0 ++ dktX8_image_1
theorem dksX8_image_0 : cX8_image.data.toList.drop 0 = dktX8_image_0 := by decide +kernel
theorem dksX8_image_1 : cX8_image.data.toList.drop 23 = dktX8_image_1 := dk_seg dksX8_image_0 23 rfl rfl
theorem dksX8_image_2 : cX8_image.data.toList.drop 47 = dktX8_image_2 := dk_seg dksX8_image_1 24 rfl rfl
theorem dksX8_image_3 : cX8_image.data.toList.drop 69 = dktX8_image_3 := dk_seg dksX8_image_2 22 rfl rfl
theorem dX8_image_0 : decode cX8_image 0 = .ok (.aload_n 0, 1) := dk_42 (dk_at dksX8_image_0 0 rfl rfl)
theorem dX8_image_1 : decode cX8_image 1 = .ok (.iconst 0, 1) := dk_3 (dk_at dksX8_image_0 1 rfl rfl)
theorem dX8_image_2 : decode cX8_image 2 = .ok (.putfield 150, 3) := dk_181 0 150 (dk_at dksX8_image_0 2 rfl rfl)
theorem dX8_image_5 : decode cX8_image 5 = .ok (.aload_n 0, 1) := dk_42 (dk_at dksX8_image_0 5 rfl rfl)
theorem dX8_image_6 : decode cX8_image 6 = .ok (.iconst 1, 1) := dk_4 (dk_at dksX8_image_0 6 rfl rfl)
theorem dX8_image_7 : decode cX8_image 7 = .ok (.putfield 329, 3) := dk_181 1 73 (dk_at dksX8_image_0 7 rfl rfl)
theorem dX8_image_10 : decode cX8_image 10 = .ok (.aload_n 0, 1) := dk_42 (dk_at dksX8_image_0 10 rfl rfl)
theorem dX8_image_11 : decode cX8_image 11 = .ok (.aload_n 0, 1) := dk_42 (dk_at dksX8_image_0 11 rfl rfl)
theorem dX8_image_12 : decode cX8_image 12 = .ok (.getfield 323, 3) := dk_180 1 67 (dk_at dksX8_image_0 12 rfl rfl)
theorem dX8_image_15 : decode cX8_image 15 = .ok (.putfield 473, 3) := dk_181 1 217 (dk_at dksX8_image_0 15 rfl rfl)
theorem dX8_image_18 : decode cX8_image 18 = .ok (.aload_n 0, 1) := dk_42 (dk_at dksX8_image_0 18 rfl rfl)
theorem dX8_image_19 : decode cX8_image 19 = .ok (.aload_n 0, 1) := dk_42 (dk_at dksX8_image_0 19 rfl rfl)
theorem dX8_image_20 : decode cX8_image 20 = .ok (.getfield 326, 3) := dk_180 1 70 (dk_at dksX8_image_0 20 rfl rfl)
theorem dX8_image_23 : decode cX8_image 23 = .ok (.putfield 476, 3) := dk_181 1 220 (dk_at dksX8_image_1 0 rfl rfl)
theorem dX8_image_26 : decode cX8_image 26 = .ok (.aload_n 0, 1) := dk_42 (dk_at dksX8_image_1 3 rfl rfl)
theorem dX8_image_27 : decode cX8_image 27 = .ok (.aload_n 0, 1) := dk_42 (dk_at dksX8_image_1 4 rfl rfl)
theorem dX8_image_28 : decode cX8_image 28 = .ok (.getfield 132, 3) := dk_180 0 132 (dk_at dksX8_image_1 5 rfl rfl)
theorem dX8_image_31 : decode cX8_image 31 = .ok (.iconst 0, 1) := dk_3 (dk_at dksX8_image_1 8 rfl rfl)
theorem dX8_image_32 : decode cX8_image 32 = .ok (.invokevirtual 429, 3) := dk_182 1 173 (dk_at dksX8_image_1 9 rfl rfl)
theorem dX8_image_35 : decode cX8_image 35 = .ok (.aload_n 0, 1) := dk_42 (dk_at dksX8_image_1 12 rfl rfl)
theorem dX8_image_36 : decode cX8_image 36 = .ok (.getfield 135, 3) := dk_180 0 135 (dk_at dksX8_image_1 13 rfl rfl)
theorem dX8_image_39 : decode cX8_image 39 = .ok (.aload_n 0, 1) := dk_42 (dk_at dksX8_image_1 16 rfl rfl)
theorem dX8_image_40 : decode cX8_image 40 = .ok (.getfield 82, 3) := dk_180 0 82 (dk_at dksX8_image_1 17 rfl rfl)
theorem dX8_image_43 : decode cX8_image 43 = .ok (.invokestatic 479, 3) := dk_184 1 223 (dk_at dksX8_image_1 20 rfl rfl)
theorem dX8_image_46 : decode cX8_image 46 = .ok (.aload_n 0, 1) := dk_42 (dk_at dksX8_image_1 23 rfl rfl)
theorem dX8_image_47 : decode cX8_image 47 = .ok (.getfield 138, 3) := dk_180 0 138 (dk_at dksX8_image_2 0 rfl rfl)
theorem dX8_image_50 : decode cX8_image 50 = .ok (.aload_n 0, 1) := dk_42 (dk_at dksX8_image_2 3 rfl rfl)
theorem dX8_image_51 : decode cX8_image 51 = .ok (.getfield 123, 3) := dk_180 0 123 (dk_at dksX8_image_2 4 rfl rfl)
theorem dX8_image_54 : decode cX8_image 54 = .ok (.invokestatic 479, 3) := dk_184 1 223 (dk_at dksX8_image_2 7 rfl rfl)
theorem dX8_image_57 : decode cX8_image 57 = .ok (.aload_n 0, 1) := dk_42 (dk_at dksX8_image_2 10 rfl rfl)
theorem dX8_image_58 : decode cX8_image 58 = .ok (.getfield 141, 3) := dk_180 0 141 (dk_at dksX8_image_2 11 rfl rfl)
theorem dX8_image_61 : decode cX8_image 61 = .ok (.aload_n 0, 1) := dk_42 (dk_at dksX8_image_2 14 rfl rfl)
theorem dX8_image_62 : decode cX8_image 62 = .ok (.getfield 126, 3) := dk_180 0 126 (dk_at dksX8_image_2 15 rfl rfl)
theorem dX8_image_65 : decode cX8_image 65 = .ok (.invokestatic 479, 3) := dk_184 1 223 (dk_at dksX8_image_2 18 rfl rfl)
theorem dX8_image_68 : decode cX8_image 68 = .ok (.aload_n 0, 1) := dk_42 (dk_at dksX8_image_2 21 rfl rfl)
theorem dX8_image_69 : decode cX8_image 69 = .ok (.getfield 144, 3) := dk_180 0 144 (dk_at dksX8_image_3 0 rfl rfl)
theorem dX8_image_72 : decode cX8_image 72 = .ok (.aload_n 0, 1) := dk_42 (dk_at dksX8_image_3 3 rfl rfl)
theorem dX8_image_73 : decode cX8_image 73 = .ok (.getfield 129, 3) := dk_180 0 129 (dk_at dksX8_image_3 4 rfl rfl)
theorem dX8_image_76 : decode cX8_image 76 = .ok (.invokestatic 479, 3) := dk_184 1 223 (dk_at dksX8_image_3 7 rfl rfl)
theorem dX8_image_79 : decode cX8_image 79 = .ok (.aload_n 0, 1) := dk_42 (dk_at dksX8_image_3 10 rfl rfl)
theorem dX8_image_80 : decode cX8_image 80 = .ok (.getfield 147, 3) := dk_180 0 147 (dk_at dksX8_image_3 11 rfl rfl)
theorem dX8_image_83 : decode cX8_image 83 = .ok (.aload_n 0, 1) := dk_42 (dk_at dksX8_image_3 14 rfl rfl)
theorem dX8_image_84 : decode cX8_image 84 = .ok (.getfield 60, 3) := dk_180 0 60 (dk_at dksX8_image_3 15 rfl rfl)
theorem dX8_image_87 : decode cX8_image 87 = .ok (.invokestatic 479, 3) := dk_184 1 223 (dk_at dksX8_image_3 18 rfl rfl)
theorem dX8_image_90 : decode cX8_image 90 = .ok (.return_, 1) := dk_177 (dk_at dksX8_image_3 21 rfl rfl)
abbrev cX8_be : ByteArray := prog_20_method_100_code
def yX8_be : MethodName := ⟨RX8, "be", "([I[I)V"⟩
def dkwX8_be_0 : List UInt8 := [3, 61, 28, 42, 190, 162, 0, 15, 42, 28, 43, 28, 46, 79, 132, 2, 1, 167, 255, 241, 177]
abbrev dktX8_be_0 : List UInt8 := dkwX8_be_0 ++ []
theorem dksX8_be_0 : cX8_be.data.toList.drop 0 = dktX8_be_0 := by decide +kernel
theorem dX8_be_0 : decode cX8_be 0 = .ok (.iconst 0, 1) := dk_3 (dk_at dksX8_be_0 0 rfl rfl)
theorem dX8_be_1 : decode cX8_be 1 = .ok (.istore_n 2, 1) := dk_61 (dk_at dksX8_be_0 1 rfl rfl)
theorem dX8_be_2 : decode cX8_be 2 = .ok (.iload_n 2, 1) := dk_28 (dk_at dksX8_be_0 2 rfl rfl)
theorem dX8_be_3 : decode cX8_be 3 = .ok (.aload_n 0, 1) := dk_42 (dk_at dksX8_be_0 3 rfl rfl)
theorem dX8_be_4 : decode cX8_be 4 = .ok (.arraylength, 1) := dk_190 (dk_at dksX8_be_0 4 rfl rfl)
theorem dX8_be_5 : decode cX8_be 5 = .ok (.if_icmp .ge 15, 3) := dk_162 0 15 (dk_at dksX8_be_0 5 rfl rfl)
theorem dX8_be_8 : decode cX8_be 8 = .ok (.aload_n 0, 1) := dk_42 (dk_at dksX8_be_0 8 rfl rfl)
theorem dX8_be_9 : decode cX8_be 9 = .ok (.iload_n 2, 1) := dk_28 (dk_at dksX8_be_0 9 rfl rfl)
theorem dX8_be_10 : decode cX8_be 10 = .ok (.aload_n 1, 1) := dk_43 (dk_at dksX8_be_0 10 rfl rfl)
theorem dX8_be_11 : decode cX8_be 11 = .ok (.iload_n 2, 1) := dk_28 (dk_at dksX8_be_0 11 rfl rfl)
theorem dX8_be_12 : decode cX8_be 12 = .ok (.iaload, 1) := dk_46 (dk_at dksX8_be_0 12 rfl rfl)
theorem dX8_be_13 : decode cX8_be 13 = .ok (.iastore, 1) := dk_79 (dk_at dksX8_be_0 13 rfl rfl)
theorem dX8_be_14 : decode cX8_be 14 = .ok (.iinc 2 1, 3) := dk_132 2 1 (dk_at dksX8_be_0 14 rfl rfl)
theorem dX8_be_17 : decode cX8_be 17 = .ok (.goto (-15), 3) := dk_167 255 241 (dk_at dksX8_be_0 17 rfl rfl)
theorem dX8_be_20 : decode cX8_be 20 = .ok (.return_, 1) := dk_177 (dk_at dksX8_be_0 20 rfl rfl)
abbrev cX8_restore : ByteArray := prog_20_method_102_code
def yX8_restore : MethodName := ⟨RX8, "restore", "()Z"⟩
def dkwX8_restore_4 : List UInt8 := [184, 1, 223, 4, 172]
abbrev dktX8_restore_4 : List UInt8 := dkwX8_restore_4 ++ []
def dkwX8_restore_3 : List UInt8 := [184, 1, 223, 42, 180, 0, 129, 42, 180, 0, 144, 184, 1, 223, 42, 180, 0, 60, 42, 180, 0, 147]
abbrev dktX8_restore_3 : List UInt8 := dkwX8_restore_3 ++ dktX8_restore_4
def dkwX8_restore_2 : List UInt8 := [184, 1, 223, 42, 180, 0, 123, 42, 180, 0, 138, 184, 1, 223, 42, 180, 0, 126, 42, 180, 0, 141]
abbrev dktX8_restore_2 : List UInt8 := dkwX8_restore_2 ++ dktX8_restore_3
def dkwX8_restore_1 : List UInt8 := [180, 1, 220, 181, 1, 70, 42, 42, 180, 0, 132, 3, 182, 1, 193, 42, 180, 0, 82, 42, 180, 0, 135]
abbrev dktX8_restore_1 : List UInt8 := dkwX8_restore_1 ++ dktX8_restore_2
def dkwX8_restore_0 : List UInt8 := [42, 3, 181, 0, 150, 42, 180, 1, 73, 154, 0, 5, 3, 172, 42, 42, 180, 1, 217, 181, 1, 67, 42, 42]
abbrev dktX8_restore_0 : List UInt8 := dkwX8_restore_0 ++ dktX8_restore_1
theorem dksX8_restore_0 : cX8_restore.data.toList.drop 0 = dktX8_restore_0 := by decide +kernel
theorem dksX8_restore_1 : cX8_restore.data.toList.drop 24 = dktX8_restore_1 := dk_seg dksX8_restore_0 24 rfl rfl
theorem dksX8_restore_2 : cX8_restore.data.toList.drop 47 = dktX8_restore_2 := dk_seg dksX8_restore_1 23 rfl rfl
theorem dksX8_restore_3 : cX8_restore.data.toList.drop 69 = dktX8_restore_3 := dk_seg dksX8_restore_2 22 rfl rfl
theorem dksX8_restore_4 : cX8_restore.data.toList.drop 91 = dktX8_restore_4 := dk_seg dksX8_restore_3 22 rfl rfl
theorem dX8_restore_0 : decode cX8_restore 0 = .ok (.aload_n 0, 1) := dk_42 (dk_at dksX8_restore_0 0 rfl rfl)
theorem dX8_restore_1 : decode cX8_restore 1 = .ok (.iconst 0, 1) := dk_3 (dk_at dksX8_restore_0 1 rfl rfl)
theorem dX8_restore_2 : decode cX8_restore 2 = .ok (.putfield 150, 3) := dk_181 0 150 (dk_at dksX8_restore_0 2 rfl rfl)
theorem dX8_restore_5 : decode cX8_restore 5 = .ok (.aload_n 0, 1) := dk_42 (dk_at dksX8_restore_0 5 rfl rfl)
theorem dX8_restore_6 : decode cX8_restore 6 = .ok (.getfield 329, 3) := dk_180 1 73 (dk_at dksX8_restore_0 6 rfl rfl)
theorem dX8_restore_9 : decode cX8_restore 9 = .ok (.ifCond .ne 5, 3) := dk_154 0 5 (dk_at dksX8_restore_0 9 rfl rfl)
theorem dX8_restore_12 : decode cX8_restore 12 = .ok (.iconst 0, 1) := dk_3 (dk_at dksX8_restore_0 12 rfl rfl)
theorem dX8_restore_13 : decode cX8_restore 13 = .ok (.ireturn, 1) := dk_172 (dk_at dksX8_restore_0 13 rfl rfl)
theorem dX8_restore_14 : decode cX8_restore 14 = .ok (.aload_n 0, 1) := dk_42 (dk_at dksX8_restore_0 14 rfl rfl)
theorem dX8_restore_15 : decode cX8_restore 15 = .ok (.aload_n 0, 1) := dk_42 (dk_at dksX8_restore_0 15 rfl rfl)
theorem dX8_restore_16 : decode cX8_restore 16 = .ok (.getfield 473, 3) := dk_180 1 217 (dk_at dksX8_restore_0 16 rfl rfl)
theorem dX8_restore_19 : decode cX8_restore 19 = .ok (.putfield 323, 3) := dk_181 1 67 (dk_at dksX8_restore_0 19 rfl rfl)
theorem dX8_restore_22 : decode cX8_restore 22 = .ok (.aload_n 0, 1) := dk_42 (dk_at dksX8_restore_0 22 rfl rfl)
theorem dX8_restore_23 : decode cX8_restore 23 = .ok (.aload_n 0, 1) := dk_42 (dk_at dksX8_restore_0 23 rfl rfl)
theorem dX8_restore_24 : decode cX8_restore 24 = .ok (.getfield 476, 3) := dk_180 1 220 (dk_at dksX8_restore_1 0 rfl rfl)
theorem dX8_restore_27 : decode cX8_restore 27 = .ok (.putfield 326, 3) := dk_181 1 70 (dk_at dksX8_restore_1 3 rfl rfl)
theorem dX8_restore_30 : decode cX8_restore 30 = .ok (.aload_n 0, 1) := dk_42 (dk_at dksX8_restore_1 6 rfl rfl)
theorem dX8_restore_31 : decode cX8_restore 31 = .ok (.aload_n 0, 1) := dk_42 (dk_at dksX8_restore_1 7 rfl rfl)
theorem dX8_restore_32 : decode cX8_restore 32 = .ok (.getfield 132, 3) := dk_180 0 132 (dk_at dksX8_restore_1 8 rfl rfl)
theorem dX8_restore_35 : decode cX8_restore 35 = .ok (.iconst 0, 1) := dk_3 (dk_at dksX8_restore_1 11 rfl rfl)
theorem dX8_restore_36 : decode cX8_restore 36 = .ok (.invokevirtual 449, 3) := dk_182 1 193 (dk_at dksX8_restore_1 12 rfl rfl)
theorem dX8_restore_39 : decode cX8_restore 39 = .ok (.aload_n 0, 1) := dk_42 (dk_at dksX8_restore_1 15 rfl rfl)
theorem dX8_restore_40 : decode cX8_restore 40 = .ok (.getfield 82, 3) := dk_180 0 82 (dk_at dksX8_restore_1 16 rfl rfl)
theorem dX8_restore_43 : decode cX8_restore 43 = .ok (.aload_n 0, 1) := dk_42 (dk_at dksX8_restore_1 19 rfl rfl)
theorem dX8_restore_44 : decode cX8_restore 44 = .ok (.getfield 135, 3) := dk_180 0 135 (dk_at dksX8_restore_1 20 rfl rfl)
theorem dX8_restore_47 : decode cX8_restore 47 = .ok (.invokestatic 479, 3) := dk_184 1 223 (dk_at dksX8_restore_2 0 rfl rfl)
theorem dX8_restore_50 : decode cX8_restore 50 = .ok (.aload_n 0, 1) := dk_42 (dk_at dksX8_restore_2 3 rfl rfl)
theorem dX8_restore_51 : decode cX8_restore 51 = .ok (.getfield 123, 3) := dk_180 0 123 (dk_at dksX8_restore_2 4 rfl rfl)
theorem dX8_restore_54 : decode cX8_restore 54 = .ok (.aload_n 0, 1) := dk_42 (dk_at dksX8_restore_2 7 rfl rfl)
theorem dX8_restore_55 : decode cX8_restore 55 = .ok (.getfield 138, 3) := dk_180 0 138 (dk_at dksX8_restore_2 8 rfl rfl)
theorem dX8_restore_58 : decode cX8_restore 58 = .ok (.invokestatic 479, 3) := dk_184 1 223 (dk_at dksX8_restore_2 11 rfl rfl)
theorem dX8_restore_61 : decode cX8_restore 61 = .ok (.aload_n 0, 1) := dk_42 (dk_at dksX8_restore_2 14 rfl rfl)
theorem dX8_restore_62 : decode cX8_restore 62 = .ok (.getfield 126, 3) := dk_180 0 126 (dk_at dksX8_restore_2 15 rfl rfl)
theorem dX8_restore_65 : decode cX8_restore 65 = .ok (.aload_n 0, 1) := dk_42 (dk_at dksX8_restore_2 18 rfl rfl)
theorem dX8_restore_66 : decode cX8_restore 66 = .ok (.getfield 141, 3) := dk_180 0 141 (dk_at dksX8_restore_2 19 rfl rfl)
theorem dX8_restore_69 : decode cX8_restore 69 = .ok (.invokestatic 479, 3) := dk_184 1 223 (dk_at dksX8_restore_3 0 rfl rfl)
theorem dX8_restore_72 : decode cX8_restore 72 = .ok (.aload_n 0, 1) := dk_42 (dk_at dksX8_restore_3 3 rfl rfl)
theorem dX8_restore_73 : decode cX8_restore 73 = .ok (.getfield 129, 3) := dk_180 0 129 (dk_at dksX8_restore_3 4 rfl rfl)
theorem dX8_restore_76 : decode cX8_restore 76 = .ok (.aload_n 0, 1) := dk_42 (dk_at dksX8_restore_3 7 rfl rfl)
theorem dX8_restore_77 : decode cX8_restore 77 = .ok (.getfield 144, 3) := dk_180 0 144 (dk_at dksX8_restore_3 8 rfl rfl)
theorem dX8_restore_80 : decode cX8_restore 80 = .ok (.invokestatic 479, 3) := dk_184 1 223 (dk_at dksX8_restore_3 11 rfl rfl)
theorem dX8_restore_83 : decode cX8_restore 83 = .ok (.aload_n 0, 1) := dk_42 (dk_at dksX8_restore_3 14 rfl rfl)
theorem dX8_restore_84 : decode cX8_restore 84 = .ok (.getfield 60, 3) := dk_180 0 60 (dk_at dksX8_restore_3 15 rfl rfl)
theorem dX8_restore_87 : decode cX8_restore 87 = .ok (.aload_n 0, 1) := dk_42 (dk_at dksX8_restore_3 18 rfl rfl)
theorem dX8_restore_88 : decode cX8_restore 88 = .ok (.getfield 147, 3) := dk_180 0 147 (dk_at dksX8_restore_3 19 rfl rfl)
theorem dX8_restore_91 : decode cX8_restore 91 = .ok (.invokestatic 479, 3) := dk_184 1 223 (dk_at dksX8_restore_4 0 rfl rfl)
theorem dX8_restore_94 : decode cX8_restore 94 = .ok (.iconst 1, 1) := dk_4 (dk_at dksX8_restore_4 3 rfl rfl)
theorem dX8_restore_95 : decode cX8_restore 95 = .ok (.ireturn, 1) := dk_172 (dk_at dksX8_restore_4 4 rfl rfl)
theorem q134 : (Jvm.Cond.initialized "ApartBenchModel") ∈ lw_all := lw_g (lw_at lw_m1 29 rfl) rfl
theorem q684 : (Jvm.Cond.selects "ApartBenchModel" ({ cls := "java/lang/Object", name := "getClass", desc := "()Ljava/lang/Class;" } : Jvm.MethodName) ({ cls := "java/lang/Object", name := "getClass", desc := "()Ljava/lang/Class;" } : Jvm.MethodName)) ∈ lw_all := lw_g (lw_at lw_m3 99 rfl) rfl
theorem q1713 : (Jvm.Cond.instantiable "ApartBenchModel" (63 : Nat)) ∈ lw_all := lw_g (lw_at lw_m7 168 rfl) rfl
theorem q1715 : (Jvm.Cond.instanceMethod ({ cls := "ApartBenchModel", name := "<init>", desc := "()V" } : Jvm.MethodName)) ∈ lw_all := lw_g (lw_at lw_m7 170 rfl) rfl
theorem q1716 : (Jvm.Cond.code ({ cls := "ApartBenchModel", name := "<init>", desc := "()V" } : Jvm.MethodName) prog_20_method_1_code (1 : Nat) (Option.none : Option Jvm.ClassFile.FieldType)) ∈ lw_all := lw_g (lw_at lw_m7 171 rfl) rfl
theorem q1717 : (Jvm.Cond.methodLink "ApartBenchModel" (3 : Nat) ({ cls := "java/lang/Object", name := "<init>", desc := "()V" } : Jvm.MethodName)) ∈ lw_all := lw_g (lw_at lw_m7 172 rfl) rfl
theorem q1718 : (Jvm.Cond.classLink "ApartBenchModel" (9 : Nat) "java/lang/String") ∈ lw_all := lw_g (lw_at lw_m7 173 rfl) rfl
theorem q1720 : (Jvm.Cond.stringRef "ApartBenchModel" (11 : Nat) "judge") ∈ lw_tbl := lw_at lw_m7 175 rfl
theorem q1721 : (Jvm.Cond.stringRef "ApartBenchModel" (13 : Nat) "deaf") ∈ lw_tbl := lw_at lw_m7 176 rfl
theorem q1722 : (Jvm.Cond.stringRef "ApartBenchModel" (15 : Nat) "wise") ∈ lw_tbl := lw_at lw_m7 177 rfl
theorem q1723 : (Jvm.Cond.stringRef "ApartBenchModel" (21 : Nat) "proof") ∈ lw_tbl := lw_at lw_m7 178 rfl
theorem q1724 : (Jvm.Cond.stringRef "ApartBenchModel" (23 : Nat) "harsh") ∈ lw_tbl := lw_at lw_m7 179 rfl
theorem q1725 : (Jvm.Cond.stringRef "ApartBenchModel" (25 : Nat) "day") ∈ lw_tbl := lw_at lw_m7 180 rfl
theorem q1726 : (Jvm.Cond.stringRef "ApartBenchModel" (27 : Nat) "town") ∈ lw_tbl := lw_at lw_m7 181 rfl
theorem q1727 : (Jvm.Cond.stringRef "ApartBenchModel" (29 : Nat) "said") ∈ lw_tbl := lw_at lw_m7 182 rfl
theorem q1728 : (Jvm.Cond.fieldLink "ApartBenchModel" (17 : Nat) "ApartBenchModel" "kinds" "[Ljava/lang/String;") ∈ lw_all := lw_g (lw_at lw_m7 183 rfl) rfl
theorem q1729 : (Jvm.Cond.fieldLink "ApartBenchModel" (31 : Nat) "ApartBenchModel" "values" "[Ljava/lang/String;") ∈ lw_all := lw_g (lw_at lw_m7 184 rfl) rfl
theorem q1730 : (Jvm.Cond.fieldLink "ApartBenchModel" (150 : Nat) "ApartBenchModel" "code" "I") ∈ lw_all := lw_g (lw_at lw_m7 185 rfl) rfl
theorem q1731 : (Jvm.Cond.fieldLink "ApartBenchModel" (34 : Nat) "ApartBenchModel" "told" "[I") ∈ lw_all := lw_g (lw_at lw_m7 186 rfl) rfl
theorem q1732 : (Jvm.Cond.fieldLink "ApartBenchModel" (38 : Nat) "ApartBenchModel" "road" "[I") ∈ lw_all := lw_g (lw_at lw_m7 187 rfl) rfl
theorem q1733 : (Jvm.Cond.fieldLink "ApartBenchModel" (41 : Nat) "ApartBenchModel" "kind" "[I") ∈ lw_all := lw_g (lw_at lw_m7 188 rfl) rfl
theorem q1734 : (Jvm.Cond.fieldLink "ApartBenchModel" (44 : Nat) "ApartBenchModel" "start" "[I") ∈ lw_all := lw_g (lw_at lw_m7 189 rfl) rfl
theorem q1735 : (Jvm.Cond.fieldLink "ApartBenchModel" (47 : Nat) "ApartBenchModel" "harsh" "[I") ∈ lw_all := lw_g (lw_at lw_m7 190 rfl) rfl
theorem q1736 : (Jvm.Cond.fieldLink "ApartBenchModel" (49 : Nat) "ApartBenchModel" "steps" "[I") ∈ lw_all := lw_g (lw_at lw_m7 191 rfl) rfl
theorem q1737 : (Jvm.Cond.fieldLink "ApartBenchModel" (52 : Nat) "ApartBenchModel" "route" "[I") ∈ lw_all := lw_g (lw_at lw_m7 192 rfl) rfl
theorem q1738 : (Jvm.Cond.fieldLink "ApartBenchModel" (55 : Nat) "ApartBenchModel" "proof" "[I") ∈ lw_all := lw_g (lw_at lw_m7 193 rfl) rfl
theorem q1739 : (Jvm.Cond.fieldLink "ApartBenchModel" (57 : Nat) "ApartBenchModel" "signs" "[I") ∈ lw_all := lw_g (lw_at lw_m7 194 rfl) rfl
theorem q1740 : (Jvm.Cond.fieldLink "ApartBenchModel" (60 : Nat) "ApartBenchModel" "status" "[I") ∈ lw_all := lw_g (lw_at lw_m7 195 rfl) rfl
theorem q1741 : (Jvm.Cond.fieldLink "ApartBenchModel" (63 : Nat) "ApartBenchModel" "tape" "[I") ∈ lw_all := lw_g (lw_at lw_m7 196 rfl) rfl
theorem q1742 : (Jvm.Cond.fieldLink "ApartBenchModel" (157 : Nat) "ApartBenchModel" "taped" "I") ∈ lw_all := lw_g (lw_at lw_m7 197 rfl) rfl
theorem q1743 : (Jvm.Cond.fieldLink "ApartBenchModel" (163 : Nat) "ApartBenchModel" "at" "I") ∈ lw_all := lw_g (lw_at lw_m7 198 rfl) rfl
theorem q1744 : (Jvm.Cond.fieldLink "ApartBenchModel" (160 : Nat) "ApartBenchModel" "size" "I") ∈ lw_all := lw_g (lw_at lw_m7 199 rfl) rfl
theorem q1745 : (Jvm.Cond.fieldLink "ApartBenchModel" (173 : Nat) "ApartBenchModel" "token" "I") ∈ lw_all := lw_g (lw_at lw_m7 200 rfl) rfl
theorem q1746 : (Jvm.Cond.fieldLink "ApartBenchModel" (183 : Nat) "ApartBenchModel" "number" "I") ∈ lw_all := lw_g (lw_at lw_m7 201 rfl) rfl
theorem q1747 : (Jvm.Cond.fieldLink "ApartBenchModel" (170 : Nat) "ApartBenchModel" "begins" "I") ∈ lw_all := lw_g (lw_at lw_m7 202 rfl) rfl
theorem q1748 : (Jvm.Cond.fieldLink "ApartBenchModel" (196 : Nat) "ApartBenchModel" "stops" "I") ∈ lw_all := lw_g (lw_at lw_m7 203 rfl) rfl
theorem q1749 : (Jvm.Cond.fieldLink "ApartBenchModel" (199 : Nat) "ApartBenchModel" "bad" "I") ∈ lw_all := lw_g (lw_at lw_m7 204 rfl) rfl
theorem q1750 : (Jvm.Cond.fieldLink "ApartBenchModel" (202 : Nat) "ApartBenchModel" "badPlace" "I") ∈ lw_all := lw_g (lw_at lw_m7 205 rfl) rfl
theorem q1751 : (Jvm.Cond.fieldLink "ApartBenchModel" (66 : Nat) "ApartBenchModel" "faultPlace" "I") ∈ lw_all := lw_g (lw_at lw_m7 206 rfl) rfl
theorem q1752 : (Jvm.Cond.fieldLink "ApartBenchModel" (70 : Nat) "ApartBenchModel" "far" "[I") ∈ lw_all := lw_g (lw_at lw_m7 207 rfl) rfl
theorem q1753 : (Jvm.Cond.fieldLink "ApartBenchModel" (73 : Nat) "ApartBenchModel" "wordRows" "[I") ∈ lw_all := lw_g (lw_at lw_m7 208 rfl) rfl
theorem q1754 : (Jvm.Cond.fieldLink "ApartBenchModel" (76 : Nat) "ApartBenchModel" "feastRows" "[I") ∈ lw_all := lw_g (lw_at lw_m7 209 rfl) rfl
theorem q1755 : (Jvm.Cond.fieldLink "ApartBenchModel" (79 : Nat) "ApartBenchModel" "floodRows" "[I") ∈ lw_all := lw_g (lw_at lw_m7 210 rfl) rfl
theorem q1756 : (Jvm.Cond.fieldLink "ApartBenchModel" (82 : Nat) "ApartBenchModel" "past" "[I") ∈ lw_all := lw_g (lw_at lw_m7 211 rfl) rfl
theorem q1757 : (Jvm.Cond.fieldLink "ApartBenchModel" (311 : Nat) "ApartBenchModel" "inns" "I") ∈ lw_all := lw_g (lw_at lw_m7 212 rfl) rfl
theorem q1758 : (Jvm.Cond.fieldLink "ApartBenchModel" (314 : Nat) "ApartBenchModel" "words" "I") ∈ lw_all := lw_g (lw_at lw_m7 213 rfl) rfl
theorem q1759 : (Jvm.Cond.fieldLink "ApartBenchModel" (317 : Nat) "ApartBenchModel" "feasts" "I") ∈ lw_all := lw_g (lw_at lw_m7 214 rfl) rfl
theorem q1760 : (Jvm.Cond.fieldLink "ApartBenchModel" (320 : Nat) "ApartBenchModel" "floods" "I") ∈ lw_all := lw_g (lw_at lw_m7 215 rfl) rfl
theorem q1761 : (Jvm.Cond.fieldLink "ApartBenchModel" (323 : Nat) "ApartBenchModel" "acts" "I") ∈ lw_all := lw_g (lw_at lw_m7 216 rfl) rfl
theorem q1762 : (Jvm.Cond.fieldLink "ApartBenchModel" (326 : Nat) "ApartBenchModel" "seen" "I") ∈ lw_all := lw_g (lw_at lw_m7 217 rfl) rfl
theorem q1763 : (Jvm.Cond.fieldLink "ApartBenchModel" (85 : Nat) "ApartBenchModel" "asked" "[I") ∈ lw_all := lw_g (lw_at lw_m7 218 rfl) rfl
theorem q1764 : (Jvm.Cond.fieldLink "ApartBenchModel" (88 : Nat) "ApartBenchModel" "stack" "[I") ∈ lw_all := lw_g (lw_at lw_m7 219 rfl) rfl
theorem q1765 : (Jvm.Cond.fieldLink "ApartBenchModel" (91 : Nat) "ApartBenchModel" "stopTown" "[I") ∈ lw_all := lw_g (lw_at lw_m7 220 rfl) rfl
theorem q1766 : (Jvm.Cond.fieldLink "ApartBenchModel" (94 : Nat) "ApartBenchModel" "stopDay" "[I") ∈ lw_all := lw_g (lw_at lw_m7 221 rfl) rfl
theorem q1767 : (Jvm.Cond.fieldLink "ApartBenchModel" (97 : Nat) "ApartBenchModel" "meet" "[I") ∈ lw_all := lw_g (lw_at lw_m7 222 rfl) rfl
theorem q1768 : (Jvm.Cond.fieldLink "ApartBenchModel" (100 : Nat) "ApartBenchModel" "backward" "I") ∈ lw_all := lw_g (lw_at lw_m7 223 rfl) rfl
theorem q1769 : (Jvm.Cond.fieldLink "ApartBenchModel" (343 : Nat) "ApartBenchModel" "deafSet" "I") ∈ lw_all := lw_g (lw_at lw_m7 224 rfl) rfl
theorem q1770 : (Jvm.Cond.fieldLink "ApartBenchModel" (340 : Nat) "ApartBenchModel" "mules" "I") ∈ lw_all := lw_g (lw_at lw_m7 225 rfl) rfl
theorem q1771 : (Jvm.Cond.fieldLink "ApartBenchModel" (103 : Nat) "ApartBenchModel" "muleCase" "I") ∈ lw_all := lw_g (lw_at lw_m7 226 rfl) rfl
theorem q1772 : (Jvm.Cond.fieldLink "ApartBenchModel" (106 : Nat) "ApartBenchModel" "said" "[I") ∈ lw_all := lw_g (lw_at lw_m7 227 rfl) rfl
theorem q1773 : (Jvm.Cond.fieldLink "ApartBenchModel" (108 : Nat) "ApartBenchModel" "saidDay" "[I") ∈ lw_all := lw_g (lw_at lw_m7 228 rfl) rfl
theorem q1774 : (Jvm.Cond.fieldLink "ApartBenchModel" (111 : Nat) "ApartBenchModel" "saidTown" "[I") ∈ lw_all := lw_g (lw_at lw_m7 229 rfl) rfl
theorem q1775 : (Jvm.Cond.fieldLink "ApartBenchModel" (114 : Nat) "ApartBenchModel" "isVoid" "[I") ∈ lw_all := lw_g (lw_at lw_m7 230 rfl) rfl
theorem q1776 : (Jvm.Cond.fieldLink "ApartBenchModel" (117 : Nat) "ApartBenchModel" "guiltyDay" "[I") ∈ lw_all := lw_g (lw_at lw_m7 231 rfl) rfl
theorem q1777 : (Jvm.Cond.fieldLink "ApartBenchModel" (120 : Nat) "ApartBenchModel" "guiltyBy" "[I") ∈ lw_all := lw_g (lw_at lw_m7 232 rfl) rfl
theorem q1778 : (Jvm.Cond.fieldLink "ApartBenchModel" (123 : Nat) "ApartBenchModel" "seenCase" "[I") ∈ lw_all := lw_g (lw_at lw_m7 233 rfl) rfl
theorem q1779 : (Jvm.Cond.fieldLink "ApartBenchModel" (126 : Nat) "ApartBenchModel" "seenJudge" "[I") ∈ lw_all := lw_g (lw_at lw_m7 234 rfl) rfl
theorem q1780 : (Jvm.Cond.fieldLink "ApartBenchModel" (129 : Nat) "ApartBenchModel" "seenVoid" "[I") ∈ lw_all := lw_g (lw_at lw_m7 235 rfl) rfl
theorem q1781 : (Jvm.Cond.fieldLink "ApartBenchModel" (464 : Nat) "ApartBenchModel" "seedNow" "I") ∈ lw_all := lw_g (lw_at lw_m7 236 rfl) rfl
theorem q1782 : (Jvm.Cond.fieldLink "ApartBenchModel" (329 : Nat) "ApartBenchModel" "hasImage" "Z") ∈ lw_all := lw_g (lw_at lw_m7 237 rfl) rfl
theorem q1783 : (Jvm.Cond.fieldLink "ApartBenchModel" (473 : Nat) "ApartBenchModel" "actsThen" "I") ∈ lw_all := lw_g (lw_at lw_m7 238 rfl) rfl
theorem q1784 : (Jvm.Cond.fieldLink "ApartBenchModel" (476 : Nat) "ApartBenchModel" "seenThen" "I") ∈ lw_all := lw_g (lw_at lw_m7 239 rfl) rfl
theorem q1785 : (Jvm.Cond.fieldLink "ApartBenchModel" (132 : Nat) "ApartBenchModel" "rowThen" "[I") ∈ lw_all := lw_g (lw_at lw_m8 0 rfl) rfl
theorem q1786 : (Jvm.Cond.fieldLink "ApartBenchModel" (135 : Nat) "ApartBenchModel" "pastThen" "[I") ∈ lw_all := lw_g (lw_at lw_m8 1 rfl) rfl
theorem q1787 : (Jvm.Cond.fieldLink "ApartBenchModel" (138 : Nat) "ApartBenchModel" "seenCaseThen" "[I") ∈ lw_all := lw_g (lw_at lw_m8 2 rfl) rfl
theorem q1788 : (Jvm.Cond.fieldLink "ApartBenchModel" (141 : Nat) "ApartBenchModel" "seenJudgeThen" "[I") ∈ lw_all := lw_g (lw_at lw_m8 3 rfl) rfl
theorem q1789 : (Jvm.Cond.fieldLink "ApartBenchModel" (144 : Nat) "ApartBenchModel" "seenVoidThen" "[I") ∈ lw_all := lw_g (lw_at lw_m8 4 rfl) rfl
theorem q1790 : (Jvm.Cond.fieldLink "ApartBenchModel" (147 : Nat) "ApartBenchModel" "statusThen" "[I") ∈ lw_all := lw_g (lw_at lw_m8 5 rfl) rfl
theorem q1791 : (Jvm.Cond.laysFinal "ApartBenchModel" "ApartBenchModel" "kinds" "[Ljava/lang/String;") ∈ lw_all := lw_g (lw_at lw_m8 6 rfl) rfl
theorem q1792 : (Jvm.Cond.soleField "ApartBenchModel" "kinds") ∈ lw_all := lw_g (lw_at lw_m8 7 rfl) rfl
theorem q1793 : (Jvm.Cond.laysFinal "ApartBenchModel" "ApartBenchModel" "values" "[Ljava/lang/String;") ∈ lw_all := lw_g (lw_at lw_m8 8 rfl) rfl
theorem q1794 : (Jvm.Cond.soleField "ApartBenchModel" "values") ∈ lw_all := lw_g (lw_at lw_m8 9 rfl) rfl
theorem q1795 : (Jvm.Cond.lays "ApartBenchModel" "ApartBenchModel" "code" "I") ∈ lw_all := lw_g (lw_at lw_m8 10 rfl) rfl
theorem q1796 : (Jvm.Cond.soleField "ApartBenchModel" "code") ∈ lw_all := lw_g (lw_at lw_m8 11 rfl) rfl
theorem q1797 : (Jvm.Cond.laysFinal "ApartBenchModel" "ApartBenchModel" "told" "[I") ∈ lw_all := lw_g (lw_at lw_m8 12 rfl) rfl
theorem q1798 : (Jvm.Cond.soleField "ApartBenchModel" "told") ∈ lw_all := lw_g (lw_at lw_m8 13 rfl) rfl
theorem q1799 : (Jvm.Cond.laysFinal "ApartBenchModel" "ApartBenchModel" "road" "[I") ∈ lw_all := lw_g (lw_at lw_m8 14 rfl) rfl
theorem q1800 : (Jvm.Cond.soleField "ApartBenchModel" "road") ∈ lw_all := lw_g (lw_at lw_m8 15 rfl) rfl
theorem q1801 : (Jvm.Cond.laysFinal "ApartBenchModel" "ApartBenchModel" "kind" "[I") ∈ lw_all := lw_g (lw_at lw_m8 16 rfl) rfl
theorem q1802 : (Jvm.Cond.soleField "ApartBenchModel" "kind") ∈ lw_all := lw_g (lw_at lw_m8 17 rfl) rfl
theorem q1803 : (Jvm.Cond.laysFinal "ApartBenchModel" "ApartBenchModel" "start" "[I") ∈ lw_all := lw_g (lw_at lw_m8 18 rfl) rfl
theorem q1804 : (Jvm.Cond.soleField "ApartBenchModel" "start") ∈ lw_all := lw_g (lw_at lw_m8 19 rfl) rfl
theorem q1805 : (Jvm.Cond.laysFinal "ApartBenchModel" "ApartBenchModel" "harsh" "[I") ∈ lw_all := lw_g (lw_at lw_m8 20 rfl) rfl
theorem q1806 : (Jvm.Cond.soleField "ApartBenchModel" "harsh") ∈ lw_all := lw_g (lw_at lw_m8 21 rfl) rfl
theorem q1807 : (Jvm.Cond.laysFinal "ApartBenchModel" "ApartBenchModel" "steps" "[I") ∈ lw_all := lw_g (lw_at lw_m8 22 rfl) rfl
theorem q1808 : (Jvm.Cond.soleField "ApartBenchModel" "steps") ∈ lw_all := lw_g (lw_at lw_m8 23 rfl) rfl
theorem q1809 : (Jvm.Cond.laysFinal "ApartBenchModel" "ApartBenchModel" "route" "[I") ∈ lw_all := lw_g (lw_at lw_m8 24 rfl) rfl
theorem q1810 : (Jvm.Cond.soleField "ApartBenchModel" "route") ∈ lw_all := lw_g (lw_at lw_m8 25 rfl) rfl
theorem q1811 : (Jvm.Cond.laysFinal "ApartBenchModel" "ApartBenchModel" "proof" "[I") ∈ lw_all := lw_g (lw_at lw_m8 26 rfl) rfl
theorem q1812 : (Jvm.Cond.soleField "ApartBenchModel" "proof") ∈ lw_all := lw_g (lw_at lw_m8 27 rfl) rfl
theorem q1813 : (Jvm.Cond.laysFinal "ApartBenchModel" "ApartBenchModel" "signs" "[I") ∈ lw_all := lw_g (lw_at lw_m8 28 rfl) rfl
theorem q1814 : (Jvm.Cond.soleField "ApartBenchModel" "signs") ∈ lw_all := lw_g (lw_at lw_m8 29 rfl) rfl
theorem q1815 : (Jvm.Cond.laysFinal "ApartBenchModel" "ApartBenchModel" "status" "[I") ∈ lw_all := lw_g (lw_at lw_m8 30 rfl) rfl
theorem q1816 : (Jvm.Cond.soleField "ApartBenchModel" "status") ∈ lw_all := lw_g (lw_at lw_m8 31 rfl) rfl
theorem q1817 : (Jvm.Cond.laysFinal "ApartBenchModel" "ApartBenchModel" "tape" "[I") ∈ lw_all := lw_g (lw_at lw_m8 32 rfl) rfl
theorem q1818 : (Jvm.Cond.soleField "ApartBenchModel" "tape") ∈ lw_all := lw_g (lw_at lw_m8 33 rfl) rfl
theorem q1819 : (Jvm.Cond.lays "ApartBenchModel" "ApartBenchModel" "taped" "I") ∈ lw_all := lw_g (lw_at lw_m8 34 rfl) rfl
theorem q1820 : (Jvm.Cond.soleField "ApartBenchModel" "taped") ∈ lw_all := lw_g (lw_at lw_m8 35 rfl) rfl
theorem q1821 : (Jvm.Cond.lays "ApartBenchModel" "ApartBenchModel" "at" "I") ∈ lw_all := lw_g (lw_at lw_m8 36 rfl) rfl
theorem q1822 : (Jvm.Cond.soleField "ApartBenchModel" "at") ∈ lw_all := lw_g (lw_at lw_m8 37 rfl) rfl
theorem q1823 : (Jvm.Cond.lays "ApartBenchModel" "ApartBenchModel" "size" "I") ∈ lw_all := lw_g (lw_at lw_m8 38 rfl) rfl
theorem q1824 : (Jvm.Cond.soleField "ApartBenchModel" "size") ∈ lw_all := lw_g (lw_at lw_m8 39 rfl) rfl
theorem q1825 : (Jvm.Cond.lays "ApartBenchModel" "ApartBenchModel" "token" "I") ∈ lw_all := lw_g (lw_at lw_m8 40 rfl) rfl
theorem q1826 : (Jvm.Cond.soleField "ApartBenchModel" "token") ∈ lw_all := lw_g (lw_at lw_m8 41 rfl) rfl
theorem q1827 : (Jvm.Cond.lays "ApartBenchModel" "ApartBenchModel" "number" "I") ∈ lw_all := lw_g (lw_at lw_m8 42 rfl) rfl
theorem q1828 : (Jvm.Cond.soleField "ApartBenchModel" "number") ∈ lw_all := lw_g (lw_at lw_m8 43 rfl) rfl
theorem q1829 : (Jvm.Cond.lays "ApartBenchModel" "ApartBenchModel" "begins" "I") ∈ lw_all := lw_g (lw_at lw_m8 44 rfl) rfl
theorem q1830 : (Jvm.Cond.soleField "ApartBenchModel" "begins") ∈ lw_all := lw_g (lw_at lw_m8 45 rfl) rfl
theorem q1831 : (Jvm.Cond.lays "ApartBenchModel" "ApartBenchModel" "stops" "I") ∈ lw_all := lw_g (lw_at lw_m8 46 rfl) rfl
theorem q1832 : (Jvm.Cond.soleField "ApartBenchModel" "stops") ∈ lw_all := lw_g (lw_at lw_m8 47 rfl) rfl
theorem q1833 : (Jvm.Cond.lays "ApartBenchModel" "ApartBenchModel" "bad" "I") ∈ lw_all := lw_g (lw_at lw_m8 48 rfl) rfl
theorem q1834 : (Jvm.Cond.soleField "ApartBenchModel" "bad") ∈ lw_all := lw_g (lw_at lw_m8 49 rfl) rfl
theorem q1835 : (Jvm.Cond.lays "ApartBenchModel" "ApartBenchModel" "badPlace" "I") ∈ lw_all := lw_g (lw_at lw_m8 50 rfl) rfl
theorem q1836 : (Jvm.Cond.soleField "ApartBenchModel" "badPlace") ∈ lw_all := lw_g (lw_at lw_m8 51 rfl) rfl
theorem q1837 : (Jvm.Cond.lays "ApartBenchModel" "ApartBenchModel" "faultPlace" "I") ∈ lw_all := lw_g (lw_at lw_m8 52 rfl) rfl
theorem q1838 : (Jvm.Cond.soleField "ApartBenchModel" "faultPlace") ∈ lw_all := lw_g (lw_at lw_m8 53 rfl) rfl
theorem q1839 : (Jvm.Cond.laysFinal "ApartBenchModel" "ApartBenchModel" "far" "[I") ∈ lw_all := lw_g (lw_at lw_m8 54 rfl) rfl
theorem q1840 : (Jvm.Cond.soleField "ApartBenchModel" "far") ∈ lw_all := lw_g (lw_at lw_m8 55 rfl) rfl
theorem q1841 : (Jvm.Cond.laysFinal "ApartBenchModel" "ApartBenchModel" "wordRows" "[I") ∈ lw_all := lw_g (lw_at lw_m8 56 rfl) rfl
theorem q1842 : (Jvm.Cond.soleField "ApartBenchModel" "wordRows") ∈ lw_all := lw_g (lw_at lw_m8 57 rfl) rfl
theorem q1843 : (Jvm.Cond.laysFinal "ApartBenchModel" "ApartBenchModel" "feastRows" "[I") ∈ lw_all := lw_g (lw_at lw_m8 58 rfl) rfl
theorem q1844 : (Jvm.Cond.soleField "ApartBenchModel" "feastRows") ∈ lw_all := lw_g (lw_at lw_m8 59 rfl) rfl
theorem q1845 : (Jvm.Cond.laysFinal "ApartBenchModel" "ApartBenchModel" "floodRows" "[I") ∈ lw_all := lw_g (lw_at lw_m8 60 rfl) rfl
theorem q1846 : (Jvm.Cond.soleField "ApartBenchModel" "floodRows") ∈ lw_all := lw_g (lw_at lw_m8 61 rfl) rfl
theorem q1847 : (Jvm.Cond.laysFinal "ApartBenchModel" "ApartBenchModel" "past" "[I") ∈ lw_all := lw_g (lw_at lw_m8 62 rfl) rfl
theorem q1848 : (Jvm.Cond.soleField "ApartBenchModel" "past") ∈ lw_all := lw_g (lw_at lw_m8 63 rfl) rfl
theorem q1849 : (Jvm.Cond.lays "ApartBenchModel" "ApartBenchModel" "inns" "I") ∈ lw_all := lw_g (lw_at lw_m8 64 rfl) rfl
theorem q1850 : (Jvm.Cond.soleField "ApartBenchModel" "inns") ∈ lw_all := lw_g (lw_at lw_m8 65 rfl) rfl
theorem q1851 : (Jvm.Cond.lays "ApartBenchModel" "ApartBenchModel" "words" "I") ∈ lw_all := lw_g (lw_at lw_m8 66 rfl) rfl
theorem q1852 : (Jvm.Cond.soleField "ApartBenchModel" "words") ∈ lw_all := lw_g (lw_at lw_m8 67 rfl) rfl
theorem q1853 : (Jvm.Cond.lays "ApartBenchModel" "ApartBenchModel" "feasts" "I") ∈ lw_all := lw_g (lw_at lw_m8 68 rfl) rfl
theorem q1854 : (Jvm.Cond.soleField "ApartBenchModel" "feasts") ∈ lw_all := lw_g (lw_at lw_m8 69 rfl) rfl
theorem q1855 : (Jvm.Cond.lays "ApartBenchModel" "ApartBenchModel" "floods" "I") ∈ lw_all := lw_g (lw_at lw_m8 70 rfl) rfl
theorem q1856 : (Jvm.Cond.soleField "ApartBenchModel" "floods") ∈ lw_all := lw_g (lw_at lw_m8 71 rfl) rfl
theorem q1857 : (Jvm.Cond.lays "ApartBenchModel" "ApartBenchModel" "acts" "I") ∈ lw_all := lw_g (lw_at lw_m8 72 rfl) rfl
theorem q1858 : (Jvm.Cond.soleField "ApartBenchModel" "acts") ∈ lw_all := lw_g (lw_at lw_m8 73 rfl) rfl
theorem q1859 : (Jvm.Cond.lays "ApartBenchModel" "ApartBenchModel" "seen" "I") ∈ lw_all := lw_g (lw_at lw_m8 74 rfl) rfl
theorem q1860 : (Jvm.Cond.soleField "ApartBenchModel" "seen") ∈ lw_all := lw_g (lw_at lw_m8 75 rfl) rfl
theorem q1861 : (Jvm.Cond.laysFinal "ApartBenchModel" "ApartBenchModel" "asked" "[I") ∈ lw_all := lw_g (lw_at lw_m8 76 rfl) rfl
theorem q1862 : (Jvm.Cond.soleField "ApartBenchModel" "asked") ∈ lw_all := lw_g (lw_at lw_m8 77 rfl) rfl
theorem q1863 : (Jvm.Cond.laysFinal "ApartBenchModel" "ApartBenchModel" "stack" "[I") ∈ lw_all := lw_g (lw_at lw_m8 78 rfl) rfl
theorem q1864 : (Jvm.Cond.soleField "ApartBenchModel" "stack") ∈ lw_all := lw_g (lw_at lw_m8 79 rfl) rfl
theorem q1865 : (Jvm.Cond.laysFinal "ApartBenchModel" "ApartBenchModel" "stopTown" "[I") ∈ lw_all := lw_g (lw_at lw_m8 80 rfl) rfl
theorem q1866 : (Jvm.Cond.soleField "ApartBenchModel" "stopTown") ∈ lw_all := lw_g (lw_at lw_m8 81 rfl) rfl
theorem q1867 : (Jvm.Cond.laysFinal "ApartBenchModel" "ApartBenchModel" "stopDay" "[I") ∈ lw_all := lw_g (lw_at lw_m8 82 rfl) rfl
theorem q1868 : (Jvm.Cond.soleField "ApartBenchModel" "stopDay") ∈ lw_all := lw_g (lw_at lw_m8 83 rfl) rfl
theorem q1869 : (Jvm.Cond.laysFinal "ApartBenchModel" "ApartBenchModel" "meet" "[I") ∈ lw_all := lw_g (lw_at lw_m8 84 rfl) rfl
theorem q1870 : (Jvm.Cond.soleField "ApartBenchModel" "meet") ∈ lw_all := lw_g (lw_at lw_m8 85 rfl) rfl
theorem q1871 : (Jvm.Cond.lays "ApartBenchModel" "ApartBenchModel" "backward" "I") ∈ lw_all := lw_g (lw_at lw_m8 86 rfl) rfl
theorem q1872 : (Jvm.Cond.soleField "ApartBenchModel" "backward") ∈ lw_all := lw_g (lw_at lw_m8 87 rfl) rfl
theorem q1873 : (Jvm.Cond.lays "ApartBenchModel" "ApartBenchModel" "deafSet" "I") ∈ lw_all := lw_g (lw_at lw_m8 88 rfl) rfl
theorem q1874 : (Jvm.Cond.soleField "ApartBenchModel" "deafSet") ∈ lw_all := lw_g (lw_at lw_m8 89 rfl) rfl
theorem q1875 : (Jvm.Cond.lays "ApartBenchModel" "ApartBenchModel" "mules" "I") ∈ lw_all := lw_g (lw_at lw_m8 90 rfl) rfl
theorem q1876 : (Jvm.Cond.soleField "ApartBenchModel" "mules") ∈ lw_all := lw_g (lw_at lw_m8 91 rfl) rfl
theorem q1877 : (Jvm.Cond.lays "ApartBenchModel" "ApartBenchModel" "muleCase" "I") ∈ lw_all := lw_g (lw_at lw_m8 92 rfl) rfl
theorem q1878 : (Jvm.Cond.soleField "ApartBenchModel" "muleCase") ∈ lw_all := lw_g (lw_at lw_m8 93 rfl) rfl
theorem q1879 : (Jvm.Cond.laysFinal "ApartBenchModel" "ApartBenchModel" "said" "[I") ∈ lw_all := lw_g (lw_at lw_m8 94 rfl) rfl
theorem q1880 : (Jvm.Cond.soleField "ApartBenchModel" "said") ∈ lw_all := lw_g (lw_at lw_m8 95 rfl) rfl
theorem q1881 : (Jvm.Cond.laysFinal "ApartBenchModel" "ApartBenchModel" "saidDay" "[I") ∈ lw_all := lw_g (lw_at lw_m8 96 rfl) rfl
theorem q1882 : (Jvm.Cond.soleField "ApartBenchModel" "saidDay") ∈ lw_all := lw_g (lw_at lw_m8 97 rfl) rfl
theorem q1883 : (Jvm.Cond.laysFinal "ApartBenchModel" "ApartBenchModel" "saidTown" "[I") ∈ lw_all := lw_g (lw_at lw_m8 98 rfl) rfl
theorem q1884 : (Jvm.Cond.soleField "ApartBenchModel" "saidTown") ∈ lw_all := lw_g (lw_at lw_m8 99 rfl) rfl
theorem q1885 : (Jvm.Cond.laysFinal "ApartBenchModel" "ApartBenchModel" "isVoid" "[I") ∈ lw_all := lw_g (lw_at lw_m8 100 rfl) rfl
theorem q1886 : (Jvm.Cond.soleField "ApartBenchModel" "isVoid") ∈ lw_all := lw_g (lw_at lw_m8 101 rfl) rfl
theorem q1887 : (Jvm.Cond.laysFinal "ApartBenchModel" "ApartBenchModel" "guiltyDay" "[I") ∈ lw_all := lw_g (lw_at lw_m8 102 rfl) rfl
theorem q1888 : (Jvm.Cond.soleField "ApartBenchModel" "guiltyDay") ∈ lw_all := lw_g (lw_at lw_m8 103 rfl) rfl
theorem q1889 : (Jvm.Cond.laysFinal "ApartBenchModel" "ApartBenchModel" "guiltyBy" "[I") ∈ lw_all := lw_g (lw_at lw_m8 104 rfl) rfl
theorem q1890 : (Jvm.Cond.soleField "ApartBenchModel" "guiltyBy") ∈ lw_all := lw_g (lw_at lw_m8 105 rfl) rfl
theorem q1891 : (Jvm.Cond.laysFinal "ApartBenchModel" "ApartBenchModel" "seenCase" "[I") ∈ lw_all := lw_g (lw_at lw_m8 106 rfl) rfl
theorem q1892 : (Jvm.Cond.soleField "ApartBenchModel" "seenCase") ∈ lw_all := lw_g (lw_at lw_m8 107 rfl) rfl
theorem q1893 : (Jvm.Cond.laysFinal "ApartBenchModel" "ApartBenchModel" "seenJudge" "[I") ∈ lw_all := lw_g (lw_at lw_m8 108 rfl) rfl
theorem q1894 : (Jvm.Cond.soleField "ApartBenchModel" "seenJudge") ∈ lw_all := lw_g (lw_at lw_m8 109 rfl) rfl
theorem q1895 : (Jvm.Cond.laysFinal "ApartBenchModel" "ApartBenchModel" "seenVoid" "[I") ∈ lw_all := lw_g (lw_at lw_m8 110 rfl) rfl
theorem q1896 : (Jvm.Cond.soleField "ApartBenchModel" "seenVoid") ∈ lw_all := lw_g (lw_at lw_m8 111 rfl) rfl
theorem q1897 : (Jvm.Cond.lays "ApartBenchModel" "ApartBenchModel" "seedNow" "I") ∈ lw_all := lw_g (lw_at lw_m8 112 rfl) rfl
theorem q1898 : (Jvm.Cond.soleField "ApartBenchModel" "seedNow") ∈ lw_all := lw_g (lw_at lw_m8 113 rfl) rfl
theorem q1899 : (Jvm.Cond.lays "ApartBenchModel" "ApartBenchModel" "hasImage" "Z") ∈ lw_all := lw_g (lw_at lw_m8 114 rfl) rfl
theorem q1900 : (Jvm.Cond.soleField "ApartBenchModel" "hasImage") ∈ lw_all := lw_g (lw_at lw_m8 115 rfl) rfl
theorem q1901 : (Jvm.Cond.lays "ApartBenchModel" "ApartBenchModel" "actsThen" "I") ∈ lw_all := lw_g (lw_at lw_m8 116 rfl) rfl
theorem q1902 : (Jvm.Cond.soleField "ApartBenchModel" "actsThen") ∈ lw_all := lw_g (lw_at lw_m8 117 rfl) rfl
theorem q1903 : (Jvm.Cond.lays "ApartBenchModel" "ApartBenchModel" "seenThen" "I") ∈ lw_all := lw_g (lw_at lw_m8 118 rfl) rfl
theorem q1904 : (Jvm.Cond.soleField "ApartBenchModel" "seenThen") ∈ lw_all := lw_g (lw_at lw_m8 119 rfl) rfl
theorem q1905 : (Jvm.Cond.laysFinal "ApartBenchModel" "ApartBenchModel" "rowThen" "[I") ∈ lw_all := lw_g (lw_at lw_m8 120 rfl) rfl
theorem q1906 : (Jvm.Cond.soleField "ApartBenchModel" "rowThen") ∈ lw_all := lw_g (lw_at lw_m8 121 rfl) rfl
theorem q1907 : (Jvm.Cond.laysFinal "ApartBenchModel" "ApartBenchModel" "pastThen" "[I") ∈ lw_all := lw_g (lw_at lw_m8 122 rfl) rfl
theorem q1908 : (Jvm.Cond.soleField "ApartBenchModel" "pastThen") ∈ lw_all := lw_g (lw_at lw_m8 123 rfl) rfl
theorem q1909 : (Jvm.Cond.laysFinal "ApartBenchModel" "ApartBenchModel" "seenCaseThen" "[I") ∈ lw_all := lw_g (lw_at lw_m8 124 rfl) rfl
theorem q1910 : (Jvm.Cond.soleField "ApartBenchModel" "seenCaseThen") ∈ lw_all := lw_g (lw_at lw_m8 125 rfl) rfl
theorem q1911 : (Jvm.Cond.laysFinal "ApartBenchModel" "ApartBenchModel" "seenJudgeThen" "[I") ∈ lw_all := lw_g (lw_at lw_m8 126 rfl) rfl
theorem q1912 : (Jvm.Cond.soleField "ApartBenchModel" "seenJudgeThen") ∈ lw_all := lw_g (lw_at lw_m8 127 rfl) rfl
theorem q1913 : (Jvm.Cond.laysFinal "ApartBenchModel" "ApartBenchModel" "seenVoidThen" "[I") ∈ lw_all := lw_g (lw_at lw_m8 128 rfl) rfl
theorem q1914 : (Jvm.Cond.soleField "ApartBenchModel" "seenVoidThen") ∈ lw_all := lw_g (lw_at lw_m8 129 rfl) rfl
theorem q1915 : (Jvm.Cond.laysFinal "ApartBenchModel" "ApartBenchModel" "statusThen" "[I") ∈ lw_all := lw_g (lw_at lw_m8 130 rfl) rfl
theorem q1916 : (Jvm.Cond.soleField "ApartBenchModel" "statusThen") ∈ lw_all := lw_g (lw_at lw_m8 131 rfl) rfl
theorem q1917 : (Jvm.Cond.superclass "ApartBenchModel" "java/lang/Object") ∈ lw_all := lw_g (lw_at lw_m8 132 rfl) rfl
theorem q1919 : (Jvm.Cond.instanceMethod ({ cls := "ApartBenchModel", name := "thrown", desc := "()I" } : Jvm.MethodName)) ∈ lw_all := lw_g (lw_at lw_m8 134 rfl) rfl
theorem q1920 : (Jvm.Cond.selects "ApartBenchModel" ({ cls := "ApartBenchModel", name := "thrown", desc := "()I" } : Jvm.MethodName) ({ cls := "ApartBenchModel", name := "thrown", desc := "()I" } : Jvm.MethodName)) ∈ lw_all := lw_g (lw_at lw_m8 135 rfl) rfl
theorem q1921 : (Jvm.Cond.code ({ cls := "ApartBenchModel", name := "thrown", desc := "()I" } : Jvm.MethodName) prog_20_method_2_code (1 : Nat) (Option.some Jvm.ClassFile.FieldType.int)) ∈ lw_all := lw_g (lw_at lw_m8 136 rfl) rfl
theorem q1923 : (Jvm.Cond.instanceMethod ({ cls := "ApartBenchModel", name := "feed", desc := "(IIIII)I" } : Jvm.MethodName)) ∈ lw_all := lw_g (lw_at lw_m8 138 rfl) rfl
theorem q1924 : (Jvm.Cond.selects "ApartBenchModel" ({ cls := "ApartBenchModel", name := "feed", desc := "(IIIII)I" } : Jvm.MethodName) ({ cls := "ApartBenchModel", name := "feed", desc := "(IIIII)I" } : Jvm.MethodName)) ∈ lw_all := lw_g (lw_at lw_m8 139 rfl) rfl
theorem q1925 : (Jvm.Cond.code ({ cls := "ApartBenchModel", name := "feed", desc := "(IIIII)I" } : Jvm.MethodName) prog_20_method_8_code (8 : Nat) (Option.some Jvm.ClassFile.FieldType.int)) ∈ lw_all := lw_g (lw_at lw_m8 140 rfl) rfl
theorem q1927 : (Jvm.Cond.instanceMethod ({ cls := "ApartBenchModel", name := "land", desc := "(I)I" } : Jvm.MethodName)) ∈ lw_all := lw_g (lw_at lw_m8 142 rfl) rfl
theorem q1928 : (Jvm.Cond.selects "ApartBenchModel" ({ cls := "ApartBenchModel", name := "land", desc := "(I)I" } : Jvm.MethodName) ({ cls := "ApartBenchModel", name := "land", desc := "(I)I" } : Jvm.MethodName)) ∈ lw_all := lw_g (lw_at lw_m8 143 rfl) rfl
theorem q1929 : (Jvm.Cond.code ({ cls := "ApartBenchModel", name := "land", desc := "(I)I" } : Jvm.MethodName) prog_20_method_36_code (3 : Nat) (Option.some Jvm.ClassFile.FieldType.int)) ∈ lw_all := lw_g (lw_at lw_m8 144 rfl) rfl
theorem q1930 : (Jvm.Cond.methodLink "ApartBenchModel" (298 : Nat) ({ cls := "ApartBenchModel", name := "fail", desc := "(I)I" } : Jvm.MethodName)) ∈ lw_all := lw_g (lw_at lw_m8 145 rfl) rfl
theorem q1931 : (Jvm.Cond.privateMethod ({ cls := "ApartBenchModel", name := "fail", desc := "(I)I" } : Jvm.MethodName)) ∈ lw_tbl := lw_at lw_m8 146 rfl
theorem q1932 : (Jvm.Cond.instanceMethod ({ cls := "ApartBenchModel", name := "fail", desc := "(I)I" } : Jvm.MethodName)) ∈ lw_all := lw_g (lw_at lw_m8 147 rfl) rfl
theorem q1933 : (Jvm.Cond.code ({ cls := "ApartBenchModel", name := "fail", desc := "(I)I" } : Jvm.MethodName) prog_20_method_3_code (2 : Nat) (Option.some Jvm.ClassFile.FieldType.int)) ∈ lw_all := lw_g (lw_at lw_m8 148 rfl) rfl
theorem q1934 : (Jvm.Cond.methodLink "ApartBenchModel" (224 : Nat) ({ cls := "ApartBenchModel", name := "stepOn", desc := "()V" } : Jvm.MethodName)) ∈ lw_all := lw_g (lw_at lw_m8 149 rfl) rfl
theorem q1935 : (Jvm.Cond.privateMethod ({ cls := "ApartBenchModel", name := "stepOn", desc := "()V" } : Jvm.MethodName)) ∈ lw_tbl := lw_at lw_m8 150 rfl
theorem q1936 : (Jvm.Cond.instanceMethod ({ cls := "ApartBenchModel", name := "stepOn", desc := "()V" } : Jvm.MethodName)) ∈ lw_all := lw_g (lw_at lw_m8 151 rfl) rfl
theorem q1937 : (Jvm.Cond.code ({ cls := "ApartBenchModel", name := "stepOn", desc := "()V" } : Jvm.MethodName) prog_20_method_13_code (2 : Nat) (Option.none : Option Jvm.ClassFile.FieldType)) ∈ lw_all := lw_g (lw_at lw_m8 152 rfl) rfl
theorem q1938 : (Jvm.Cond.methodLink "ApartBenchModel" (166 : Nat) ({ cls := "ApartBenchModel", name := "byteAt", desc := "(I)I" } : Jvm.MethodName)) ∈ lw_all := lw_g (lw_at lw_m8 153 rfl) rfl
theorem q1939 : (Jvm.Cond.privateMethod ({ cls := "ApartBenchModel", name := "byteAt", desc := "(I)I" } : Jvm.MethodName)) ∈ lw_tbl := lw_at lw_m8 154 rfl
theorem q1940 : (Jvm.Cond.instanceMethod ({ cls := "ApartBenchModel", name := "byteAt", desc := "(I)I" } : Jvm.MethodName)) ∈ lw_all := lw_g (lw_at lw_m8 155 rfl) rfl
theorem q1941 : (Jvm.Cond.code ({ cls := "ApartBenchModel", name := "byteAt", desc := "(I)I" } : Jvm.MethodName) prog_20_method_9_code (2 : Nat) (Option.some Jvm.ClassFile.FieldType.int)) ∈ lw_all := lw_g (lw_at lw_m8 156 rfl) rfl
theorem q1942 : (Jvm.Cond.methodLink "ApartBenchModel" (176 : Nat) ({ cls := "ApartBenchModel", name := "isLetter", desc := "(I)Z" } : Jvm.MethodName)) ∈ lw_all := lw_g (lw_at lw_m8 157 rfl) rfl
theorem q1943 : (Jvm.Cond.static ({ cls := "ApartBenchModel", name := "isLetter", desc := "(I)Z" } : Jvm.MethodName)) ∈ lw_all := lw_g (lw_at lw_m8 158 rfl) rfl
theorem q1944 : (Jvm.Cond.code ({ cls := "ApartBenchModel", name := "isLetter", desc := "(I)Z" } : Jvm.MethodName) prog_20_method_10_code (1 : Nat) (Option.some Jvm.ClassFile.FieldType.boolean)) ∈ lw_all := lw_g (lw_at lw_m8 159 rfl) rfl
theorem q1945 : (Jvm.Cond.methodLink "ApartBenchModel" (180 : Nat) ({ cls := "ApartBenchModel", name := "isDigit", desc := "(I)Z" } : Jvm.MethodName)) ∈ lw_all := lw_g (lw_at lw_m8 160 rfl) rfl
theorem q1946 : (Jvm.Cond.static ({ cls := "ApartBenchModel", name := "isDigit", desc := "(I)Z" } : Jvm.MethodName)) ∈ lw_all := lw_g (lw_at lw_m8 161 rfl) rfl
theorem q1947 : (Jvm.Cond.code ({ cls := "ApartBenchModel", name := "isDigit", desc := "(I)Z" } : Jvm.MethodName) prog_20_method_11_code (1 : Nat) (Option.some Jvm.ClassFile.FieldType.boolean)) ∈ lw_all := lw_g (lw_at lw_m8 162 rfl) rfl
theorem q1948 : (Jvm.Cond.constant "ApartBenchModel" (186 : Nat) (100000 : Int32)) ∈ lw_all := lw_g (lw_at lw_m8 163 rfl) rfl
theorem q1949 : (Jvm.Cond.methodLink "ApartBenchModel" (187 : Nat) ({ cls := "java/lang/Math", name := "min", desc := "(II)I" } : Jvm.MethodName)) ∈ lw_all := lw_g (lw_at lw_m8 164 rfl) rfl
theorem q1950 : (Jvm.Cond.methodLink "ApartBenchModel" (193 : Nat) ({ cls := "ApartBenchModel", name := "isMark", desc := "(I)Z" } : Jvm.MethodName)) ∈ lw_all := lw_g (lw_at lw_m8 165 rfl) rfl
theorem q1951 : (Jvm.Cond.static ({ cls := "ApartBenchModel", name := "isMark", desc := "(I)Z" } : Jvm.MethodName)) ∈ lw_all := lw_g (lw_at lw_m8 166 rfl) rfl
theorem q1952 : (Jvm.Cond.code ({ cls := "ApartBenchModel", name := "isMark", desc := "(I)Z" } : Jvm.MethodName) prog_20_method_12_code (1 : Nat) (Option.some Jvm.ClassFile.FieldType.boolean)) ∈ lw_all := lw_g (lw_at lw_m8 167 rfl) rfl
theorem q1953 : (Jvm.Cond.methodLink "ApartBenchModel" (301 : Nat) ({ cls := "ApartBenchModel", name := "readLine", desc := "(I)I" } : Jvm.MethodName)) ∈ lw_all := lw_g (lw_at lw_m8 168 rfl) rfl
theorem q1954 : (Jvm.Cond.privateMethod ({ cls := "ApartBenchModel", name := "readLine", desc := "(I)I" } : Jvm.MethodName)) ∈ lw_tbl := lw_at lw_m8 169 rfl
theorem q1955 : (Jvm.Cond.instanceMethod ({ cls := "ApartBenchModel", name := "readLine", desc := "(I)I" } : Jvm.MethodName)) ∈ lw_all := lw_g (lw_at lw_m8 170 rfl) rfl
theorem q1956 : (Jvm.Cond.code ({ cls := "ApartBenchModel", name := "readLine", desc := "(I)I" } : Jvm.MethodName) prog_20_method_35_code (4 : Nat) (Option.some Jvm.ClassFile.FieldType.int)) ∈ lw_all := lw_g (lw_at lw_m8 171 rfl) rfl
theorem q1957 : (Jvm.Cond.stringRef "ApartBenchModel" (279 : Nat) "gossip") ∈ lw_tbl := lw_at lw_m8 172 rfl
theorem q1958 : (Jvm.Cond.methodLink "ApartBenchModel" (213 : Nat) ({ cls := "ApartBenchModel", name := "is", desc := "(Ljava/lang/String;)Z" } : Jvm.MethodName)) ∈ lw_all := lw_g (lw_at lw_m8 173 rfl) rfl
theorem q1959 : (Jvm.Cond.privateMethod ({ cls := "ApartBenchModel", name := "is", desc := "(Ljava/lang/String;)Z" } : Jvm.MethodName)) ∈ lw_tbl := lw_at lw_m8 174 rfl
theorem q1960 : (Jvm.Cond.instanceMethod ({ cls := "ApartBenchModel", name := "is", desc := "(Ljava/lang/String;)Z" } : Jvm.MethodName)) ∈ lw_all := lw_g (lw_at lw_m8 175 rfl) rfl
theorem q1961 : (Jvm.Cond.code ({ cls := "ApartBenchModel", name := "is", desc := "(Ljava/lang/String;)Z" } : Jvm.MethodName) prog_20_method_15_code (4 : Nat) (Option.some Jvm.ClassFile.FieldType.boolean)) ∈ lw_all := lw_g (lw_at lw_m8 176 rfl) rfl
theorem q1962 : (Jvm.Cond.methodLink "ApartBenchModel" (205 : Nat) ({ cls := "java/lang/String", name := "length", desc := "()I" } : Jvm.MethodName)) ∈ lw_all := lw_g (lw_at lw_m8 177 rfl) rfl
theorem q1963 : (Jvm.Cond.methodLink "ApartBenchModel" (209 : Nat) ({ cls := "java/lang/String", name := "charAt", desc := "(I)C" } : Jvm.MethodName)) ∈ lw_all := lw_g (lw_at lw_m8 178 rfl) rfl
theorem q1964 : (Jvm.Cond.stringRef "ApartBenchModel" (281 : Nat) "law") ∈ lw_tbl := lw_at lw_m8 179 rfl
theorem q1965 : (Jvm.Cond.methodLink "ApartBenchModel" (236 : Nat) ({ cls := "ApartBenchModel", name := "which", desc := "([Ljava/lang/String;)I" } : Jvm.MethodName)) ∈ lw_all := lw_g (lw_at lw_m8 180 rfl) rfl
theorem q1966 : (Jvm.Cond.privateMethod ({ cls := "ApartBenchModel", name := "which", desc := "([Ljava/lang/String;)I" } : Jvm.MethodName)) ∈ lw_tbl := lw_at lw_m8 181 rfl
theorem q1967 : (Jvm.Cond.instanceMethod ({ cls := "ApartBenchModel", name := "which", desc := "([Ljava/lang/String;)I" } : Jvm.MethodName)) ∈ lw_all := lw_g (lw_at lw_m8 182 rfl) rfl
theorem q1968 : (Jvm.Cond.code ({ cls := "ApartBenchModel", name := "which", desc := "([Ljava/lang/String;)I" } : Jvm.MethodName) prog_20_method_16_code (3 : Nat) (Option.some Jvm.ClassFile.FieldType.int)) ∈ lw_all := lw_g (lw_at lw_m8 183 rfl) rfl
theorem q1969 : (Jvm.Cond.methodLink "ApartBenchModel" (220 : Nat) ({ cls := "ApartBenchModel", name := "wrong", desc := "(I)V" } : Jvm.MethodName)) ∈ lw_all := lw_g (lw_at lw_m8 184 rfl) rfl
theorem q1970 : (Jvm.Cond.privateMethod ({ cls := "ApartBenchModel", name := "wrong", desc := "(I)V" } : Jvm.MethodName)) ∈ lw_tbl := lw_at lw_m8 185 rfl
theorem q1971 : (Jvm.Cond.instanceMethod ({ cls := "ApartBenchModel", name := "wrong", desc := "(I)V" } : Jvm.MethodName)) ∈ lw_all := lw_g (lw_at lw_m8 186 rfl) rfl
theorem q1972 : (Jvm.Cond.code ({ cls := "ApartBenchModel", name := "wrong", desc := "(I)V" } : Jvm.MethodName) prog_20_method_14_code (2 : Nat) (Option.none : Option Jvm.ClassFile.FieldType)) ∈ lw_all := lw_g (lw_at lw_m8 187 rfl) rfl
theorem q1973 : (Jvm.Cond.methodLink "ApartBenchModel" (230 : Nat) ({ cls := "ApartBenchModel", name := "readNumber", desc := "(II)I" } : Jvm.MethodName)) ∈ lw_all := lw_g (lw_at lw_m8 188 rfl) rfl
theorem q1974 : (Jvm.Cond.privateMethod ({ cls := "ApartBenchModel", name := "readNumber", desc := "(II)I" } : Jvm.MethodName)) ∈ lw_tbl := lw_at lw_m8 189 rfl
theorem q1975 : (Jvm.Cond.instanceMethod ({ cls := "ApartBenchModel", name := "readNumber", desc := "(II)I" } : Jvm.MethodName)) ∈ lw_all := lw_g (lw_at lw_m8 190 rfl) rfl
theorem q1976 : (Jvm.Cond.code ({ cls := "ApartBenchModel", name := "readNumber", desc := "(II)I" } : Jvm.MethodName) prog_20_method_20_code (4 : Nat) (Option.some Jvm.ClassFile.FieldType.int)) ∈ lw_all := lw_g (lw_at lw_m8 191 rfl) rfl
theorem q1977 : (Jvm.Cond.methodLink "ApartBenchModel" (227 : Nat) ({ cls := "ApartBenchModel", name := "numberNow", desc := "(II)I" } : Jvm.MethodName)) ∈ lw_all := lw_g (lw_at lw_m8 192 rfl) rfl
theorem q1978 : (Jvm.Cond.privateMethod ({ cls := "ApartBenchModel", name := "numberNow", desc := "(II)I" } : Jvm.MethodName)) ∈ lw_tbl := lw_at lw_m8 193 rfl
theorem q1979 : (Jvm.Cond.instanceMethod ({ cls := "ApartBenchModel", name := "numberNow", desc := "(II)I" } : Jvm.MethodName)) ∈ lw_all := lw_g (lw_at lw_m8 194 rfl) rfl
theorem q1980 : (Jvm.Cond.code ({ cls := "ApartBenchModel", name := "numberNow", desc := "(II)I" } : Jvm.MethodName) prog_20_method_19_code (3 : Nat) (Option.some Jvm.ClassFile.FieldType.int)) ∈ lw_all := lw_g (lw_at lw_m8 195 rfl) rfl
theorem q1981 : (Jvm.Cond.methodLink "ApartBenchModel" (243 : Nat) ({ cls := "ApartBenchModel", name := "readExpression", desc := "(I)V" } : Jvm.MethodName)) ∈ lw_all := lw_g (lw_at lw_m8 196 rfl) rfl
theorem q1982 : (Jvm.Cond.privateMethod ({ cls := "ApartBenchModel", name := "readExpression", desc := "(I)V" } : Jvm.MethodName)) ∈ lw_tbl := lw_at lw_m8 197 rfl
theorem q1983 : (Jvm.Cond.instanceMethod ({ cls := "ApartBenchModel", name := "readExpression", desc := "(I)V" } : Jvm.MethodName)) ∈ lw_all := lw_g (lw_at lw_m8 198 rfl) rfl
theorem q1984 : (Jvm.Cond.code ({ cls := "ApartBenchModel", name := "readExpression", desc := "(I)V" } : Jvm.MethodName) prog_20_method_28_code (3 : Nat) (Option.none : Option Jvm.ClassFile.FieldType)) ∈ lw_all := lw_g (lw_at lw_m8 199 rfl) rfl
theorem q1985 : (Jvm.Cond.methodLink "ApartBenchModel" (217 : Nat) ({ cls := "ApartBenchModel", name := "isMarked", desc := "(I)Z" } : Jvm.MethodName)) ∈ lw_all := lw_g (lw_at lw_m8 200 rfl) rfl
theorem q1986 : (Jvm.Cond.privateMethod ({ cls := "ApartBenchModel", name := "isMarked", desc := "(I)Z" } : Jvm.MethodName)) ∈ lw_tbl := lw_at lw_m8 201 rfl
theorem q1987 : (Jvm.Cond.instanceMethod ({ cls := "ApartBenchModel", name := "isMarked", desc := "(I)Z" } : Jvm.MethodName)) ∈ lw_all := lw_g (lw_at lw_m8 202 rfl) rfl
theorem q1988 : (Jvm.Cond.code ({ cls := "ApartBenchModel", name := "isMarked", desc := "(I)Z" } : Jvm.MethodName) prog_20_method_17_code (2 : Nat) (Option.some Jvm.ClassFile.FieldType.boolean)) ∈ lw_all := lw_g (lw_at lw_m8 203 rfl) rfl
theorem q1989 : (Jvm.Cond.methodLink "ApartBenchModel" (262 : Nat) ({ cls := "ApartBenchModel", name := "readAnd", desc := "(I)V" } : Jvm.MethodName)) ∈ lw_all := lw_g (lw_at lw_m8 204 rfl) rfl
theorem q1990 : (Jvm.Cond.privateMethod ({ cls := "ApartBenchModel", name := "readAnd", desc := "(I)V" } : Jvm.MethodName)) ∈ lw_tbl := lw_at lw_m8 205 rfl
theorem q1991 : (Jvm.Cond.instanceMethod ({ cls := "ApartBenchModel", name := "readAnd", desc := "(I)V" } : Jvm.MethodName)) ∈ lw_all := lw_g (lw_at lw_m8 206 rfl) rfl
theorem q1992 : (Jvm.Cond.code ({ cls := "ApartBenchModel", name := "readAnd", desc := "(I)V" } : Jvm.MethodName) prog_20_method_27_code (2 : Nat) (Option.none : Option Jvm.ClassFile.FieldType)) ∈ lw_all := lw_g (lw_at lw_m8 207 rfl) rfl
theorem q1993 : (Jvm.Cond.methodLink "ApartBenchModel" (257 : Nat) ({ cls := "ApartBenchModel", name := "readNot", desc := "(I)V" } : Jvm.MethodName)) ∈ lw_all := lw_g (lw_at lw_m8 208 rfl) rfl
theorem q1994 : (Jvm.Cond.privateMethod ({ cls := "ApartBenchModel", name := "readNot", desc := "(I)V" } : Jvm.MethodName)) ∈ lw_tbl := lw_at lw_m8 209 rfl
theorem q1995 : (Jvm.Cond.instanceMethod ({ cls := "ApartBenchModel", name := "readNot", desc := "(I)V" } : Jvm.MethodName)) ∈ lw_all := lw_g (lw_at lw_m8 210 rfl) rfl
theorem q1996 : (Jvm.Cond.code ({ cls := "ApartBenchModel", name := "readNot", desc := "(I)V" } : Jvm.MethodName) prog_20_method_26_code (4 : Nat) (Option.none : Option Jvm.ClassFile.FieldType)) ∈ lw_all := lw_g (lw_at lw_m8 211 rfl) rfl
theorem q1997 : (Jvm.Cond.stringRef "ApartBenchModel" (252 : Nat) "not") ∈ lw_tbl := lw_at lw_m8 212 rfl
theorem q1998 : (Jvm.Cond.methodLink "ApartBenchModel" (254 : Nat) ({ cls := "ApartBenchModel", name := "readSum", desc := "(I)V" } : Jvm.MethodName)) ∈ lw_all := lw_g (lw_at lw_m8 213 rfl) rfl
theorem q1999 : (Jvm.Cond.privateMethod ({ cls := "ApartBenchModel", name := "readSum", desc := "(I)V" } : Jvm.MethodName)) ∈ lw_tbl := lw_at lw_m8 214 rfl
theorem q2000 : (Jvm.Cond.instanceMethod ({ cls := "ApartBenchModel", name := "readSum", desc := "(I)V" } : Jvm.MethodName)) ∈ lw_all := lw_g (lw_at lw_m8 215 rfl) rfl
theorem q2001 : (Jvm.Cond.code ({ cls := "ApartBenchModel", name := "readSum", desc := "(I)V" } : Jvm.MethodName) prog_20_method_25_code (3 : Nat) (Option.none : Option Jvm.ClassFile.FieldType)) ∈ lw_all := lw_g (lw_at lw_m8 216 rfl) rfl
theorem q2002 : (Jvm.Cond.methodLink "ApartBenchModel" (249 : Nat) ({ cls := "ApartBenchModel", name := "readProduct", desc := "(I)V" } : Jvm.MethodName)) ∈ lw_all := lw_g (lw_at lw_m8 217 rfl) rfl
theorem q2003 : (Jvm.Cond.privateMethod ({ cls := "ApartBenchModel", name := "readProduct", desc := "(I)V" } : Jvm.MethodName)) ∈ lw_tbl := lw_at lw_m8 218 rfl
theorem q2004 : (Jvm.Cond.instanceMethod ({ cls := "ApartBenchModel", name := "readProduct", desc := "(I)V" } : Jvm.MethodName)) ∈ lw_all := lw_g (lw_at lw_m8 219 rfl) rfl
theorem q2005 : (Jvm.Cond.code ({ cls := "ApartBenchModel", name := "readProduct", desc := "(I)V" } : Jvm.MethodName) prog_20_method_24_code (3 : Nat) (Option.none : Option Jvm.ClassFile.FieldType)) ∈ lw_all := lw_g (lw_at lw_m8 220 rfl) rfl
theorem q2006 : (Jvm.Cond.methodLink "ApartBenchModel" (246 : Nat) ({ cls := "ApartBenchModel", name := "readPart", desc := "(I)V" } : Jvm.MethodName)) ∈ lw_all := lw_g (lw_at lw_m8 221 rfl) rfl
theorem q2007 : (Jvm.Cond.privateMethod ({ cls := "ApartBenchModel", name := "readPart", desc := "(I)V" } : Jvm.MethodName)) ∈ lw_tbl := lw_at lw_m8 222 rfl
theorem q2008 : (Jvm.Cond.instanceMethod ({ cls := "ApartBenchModel", name := "readPart", desc := "(I)V" } : Jvm.MethodName)) ∈ lw_all := lw_g (lw_at lw_m8 223 rfl) rfl
theorem q2009 : (Jvm.Cond.code ({ cls := "ApartBenchModel", name := "readPart", desc := "(I)V" } : Jvm.MethodName) prog_20_method_23_code (3 : Nat) (Option.none : Option Jvm.ClassFile.FieldType)) ∈ lw_all := lw_g (lw_at lw_m8 224 rfl) rfl
theorem q2010 : (Jvm.Cond.methodLink "ApartBenchModel" (233 : Nat) ({ cls := "ApartBenchModel", name := "lay", desc := "(I)V" } : Jvm.MethodName)) ∈ lw_all := lw_g (lw_at lw_m8 225 rfl) rfl
theorem q2011 : (Jvm.Cond.privateMethod ({ cls := "ApartBenchModel", name := "lay", desc := "(I)V" } : Jvm.MethodName)) ∈ lw_tbl := lw_at lw_m8 226 rfl
theorem q2012 : (Jvm.Cond.instanceMethod ({ cls := "ApartBenchModel", name := "lay", desc := "(I)V" } : Jvm.MethodName)) ∈ lw_all := lw_g (lw_at lw_m8 227 rfl) rfl
theorem q2013 : (Jvm.Cond.code ({ cls := "ApartBenchModel", name := "lay", desc := "(I)V" } : Jvm.MethodName) prog_20_method_22_code (2 : Nat) (Option.none : Option Jvm.ClassFile.FieldType)) ∈ lw_all := lw_g (lw_at lw_m8 228 rfl) rfl
theorem q2014 : (Jvm.Cond.methodLink "ApartBenchModel" (240 : Nat) ({ cls := "ApartBenchModel", name := "mark", desc := "(I)V" } : Jvm.MethodName)) ∈ lw_all := lw_g (lw_at lw_m8 229 rfl) rfl
theorem q2015 : (Jvm.Cond.privateMethod ({ cls := "ApartBenchModel", name := "mark", desc := "(I)V" } : Jvm.MethodName)) ∈ lw_tbl := lw_at lw_m8 230 rfl
theorem q2016 : (Jvm.Cond.instanceMethod ({ cls := "ApartBenchModel", name := "mark", desc := "(I)V" } : Jvm.MethodName)) ∈ lw_all := lw_g (lw_at lw_m8 231 rfl) rfl
theorem q2017 : (Jvm.Cond.code ({ cls := "ApartBenchModel", name := "mark", desc := "(I)V" } : Jvm.MethodName) prog_20_method_18_code (2 : Nat) (Option.none : Option Jvm.ClassFile.FieldType)) ∈ lw_all := lw_g (lw_at lw_m8 232 rfl) rfl
theorem q2018 : (Jvm.Cond.stringRef "ApartBenchModel" (260 : Nat) "and") ∈ lw_tbl := lw_at lw_m8 233 rfl
theorem q2019 : (Jvm.Cond.stringRef "ApartBenchModel" (265 : Nat) "or") ∈ lw_tbl := lw_at lw_m8 234 rfl
theorem q2020 : (Jvm.Cond.methodLink "ApartBenchModel" (283 : Nat) ({ cls := "ApartBenchModel", name := "readJudge", desc := "(I)V" } : Jvm.MethodName)) ∈ lw_all := lw_g (lw_at lw_m8 235 rfl) rfl
theorem q2021 : (Jvm.Cond.privateMethod ({ cls := "ApartBenchModel", name := "readJudge", desc := "(I)V" } : Jvm.MethodName)) ∈ lw_tbl := lw_at lw_m8 236 rfl
theorem q2022 : (Jvm.Cond.instanceMethod ({ cls := "ApartBenchModel", name := "readJudge", desc := "(I)V" } : Jvm.MethodName)) ∈ lw_all := lw_g (lw_at lw_m8 237 rfl) rfl
theorem q2023 : (Jvm.Cond.code ({ cls := "ApartBenchModel", name := "readJudge", desc := "(I)V" } : Jvm.MethodName) prog_20_method_33_code (5 : Nat) (Option.none : Option Jvm.ClassFile.FieldType)) ∈ lw_all := lw_g (lw_at lw_m8 238 rfl) rfl
theorem q2024 : (Jvm.Cond.methodLink "ApartBenchModel" (267 : Nat) ({ cls := "ApartBenchModel", name := "another", desc := "(II)Z" } : Jvm.MethodName)) ∈ lw_all := lw_g (lw_at lw_m8 239 rfl) rfl
theorem q2025 : (Jvm.Cond.privateMethod ({ cls := "ApartBenchModel", name := "another", desc := "(II)Z" } : Jvm.MethodName)) ∈ lw_tbl := lw_at lw_m9 0 rfl
theorem q2026 : (Jvm.Cond.instanceMethod ({ cls := "ApartBenchModel", name := "another", desc := "(II)Z" } : Jvm.MethodName)) ∈ lw_all := lw_g (lw_at lw_m9 1 rfl) rfl
theorem q2027 : (Jvm.Cond.code ({ cls := "ApartBenchModel", name := "another", desc := "(II)Z" } : Jvm.MethodName) prog_20_method_29_code (3 : Nat) (Option.some Jvm.ClassFile.FieldType.boolean)) ∈ lw_all := lw_g (lw_at lw_m9 2 rfl) rfl
theorem q2028 : (Jvm.Cond.methodLink "ApartBenchModel" (273 : Nat) ({ cls := "ApartBenchModel", name := "townNow", desc := "()I" } : Jvm.MethodName)) ∈ lw_all := lw_g (lw_at lw_m9 3 rfl) rfl
theorem q2029 : (Jvm.Cond.privateMethod ({ cls := "ApartBenchModel", name := "townNow", desc := "()I" } : Jvm.MethodName)) ∈ lw_tbl := lw_at lw_m9 4 rfl
theorem q2030 : (Jvm.Cond.instanceMethod ({ cls := "ApartBenchModel", name := "townNow", desc := "()I" } : Jvm.MethodName)) ∈ lw_all := lw_g (lw_at lw_m9 5 rfl) rfl
theorem q2031 : (Jvm.Cond.code ({ cls := "ApartBenchModel", name := "townNow", desc := "()I" } : Jvm.MethodName) prog_20_method_21_code (2 : Nat) (Option.some Jvm.ClassFile.FieldType.int)) ∈ lw_all := lw_g (lw_at lw_m9 6 rfl) rfl
theorem q2032 : (Jvm.Cond.methodLink "ApartBenchModel" (276 : Nat) ({ cls := "ApartBenchModel", name := "couple", desc := "(II)I" } : Jvm.MethodName)) ∈ lw_all := lw_g (lw_at lw_m9 7 rfl) rfl
theorem q2033 : (Jvm.Cond.static ({ cls := "ApartBenchModel", name := "couple", desc := "(II)I" } : Jvm.MethodName)) ∈ lw_all := lw_g (lw_at lw_m9 8 rfl) rfl
theorem q2034 : (Jvm.Cond.code ({ cls := "ApartBenchModel", name := "couple", desc := "(II)I" } : Jvm.MethodName) prog_20_method_31_code (2 : Nat) (Option.some Jvm.ClassFile.FieldType.int)) ∈ lw_all := lw_g (lw_at lw_m9 9 rfl) rfl
theorem q2035 : (Jvm.Cond.methodLink "ApartBenchModel" (286 : Nat) ({ cls := "ApartBenchModel", name := "readTown", desc := "()V" } : Jvm.MethodName)) ∈ lw_all := lw_g (lw_at lw_m9 10 rfl) rfl
theorem q2036 : (Jvm.Cond.privateMethod ({ cls := "ApartBenchModel", name := "readTown", desc := "()V" } : Jvm.MethodName)) ∈ lw_tbl := lw_at lw_m9 11 rfl
theorem q2037 : (Jvm.Cond.instanceMethod ({ cls := "ApartBenchModel", name := "readTown", desc := "()V" } : Jvm.MethodName)) ∈ lw_all := lw_g (lw_at lw_m9 12 rfl) rfl
theorem q2038 : (Jvm.Cond.code ({ cls := "ApartBenchModel", name := "readTown", desc := "()V" } : Jvm.MethodName) prog_20_method_30_code (1 : Nat) (Option.none : Option Jvm.ClassFile.FieldType)) ∈ lw_all := lw_g (lw_at lw_m9 13 rfl) rfl
theorem q2039 : (Jvm.Cond.stringRef "ApartBenchModel" (271 : Nat) "inn") ∈ lw_tbl := lw_at lw_m9 14 rfl
theorem q2040 : (Jvm.Cond.stringRef "ApartBenchModel" (289 : Nat) "road") ∈ lw_tbl := lw_at lw_m9 15 rfl
theorem q2041 : (Jvm.Cond.methodLink "ApartBenchModel" (290 : Nat) ({ cls := "ApartBenchModel", name := "readRoad", desc := "()V" } : Jvm.MethodName)) ∈ lw_all := lw_g (lw_at lw_m9 16 rfl) rfl
theorem q2042 : (Jvm.Cond.privateMethod ({ cls := "ApartBenchModel", name := "readRoad", desc := "()V" } : Jvm.MethodName)) ∈ lw_tbl := lw_at lw_m9 17 rfl
theorem q2043 : (Jvm.Cond.instanceMethod ({ cls := "ApartBenchModel", name := "readRoad", desc := "()V" } : Jvm.MethodName)) ∈ lw_all := lw_g (lw_at lw_m9 18 rfl) rfl
theorem q2044 : (Jvm.Cond.code ({ cls := "ApartBenchModel", name := "readRoad", desc := "()V" } : Jvm.MethodName) prog_20_method_32_code (5 : Nat) (Option.none : Option Jvm.ClassFile.FieldType)) ∈ lw_all := lw_g (lw_at lw_m9 19 rfl) rfl
theorem q2045 : (Jvm.Cond.stringRef "ApartBenchModel" (293 : Nat) "case") ∈ lw_tbl := lw_at lw_m9 20 rfl
theorem q2046 : (Jvm.Cond.methodLink "ApartBenchModel" (295 : Nat) ({ cls := "ApartBenchModel", name := "readCase", desc := "()V" } : Jvm.MethodName)) ∈ lw_all := lw_g (lw_at lw_m9 21 rfl) rfl
theorem q2047 : (Jvm.Cond.privateMethod ({ cls := "ApartBenchModel", name := "readCase", desc := "()V" } : Jvm.MethodName)) ∈ lw_tbl := lw_at lw_m9 22 rfl
theorem q2048 : (Jvm.Cond.instanceMethod ({ cls := "ApartBenchModel", name := "readCase", desc := "()V" } : Jvm.MethodName)) ∈ lw_all := lw_g (lw_at lw_m9 23 rfl) rfl
theorem q2049 : (Jvm.Cond.code ({ cls := "ApartBenchModel", name := "readCase", desc := "()V" } : Jvm.MethodName) prog_20_method_34_code (5 : Nat) (Option.none : Option Jvm.ClassFile.FieldType)) ∈ lw_all := lw_g (lw_at lw_m9 24 rfl) rfl
theorem q2050 : (Jvm.Cond.methodLink "ApartBenchModel" (304 : Nat) ({ cls := "ApartBenchModel", name := "takeOver", desc := "()V" } : Jvm.MethodName)) ∈ lw_all := lw_g (lw_at lw_m9 25 rfl) rfl
theorem q2051 : (Jvm.Cond.privateMethod ({ cls := "ApartBenchModel", name := "takeOver", desc := "()V" } : Jvm.MethodName)) ∈ lw_tbl := lw_at lw_m9 26 rfl
theorem q2052 : (Jvm.Cond.instanceMethod ({ cls := "ApartBenchModel", name := "takeOver", desc := "()V" } : Jvm.MethodName)) ∈ lw_all := lw_g (lw_at lw_m9 27 rfl) rfl
theorem q2053 : (Jvm.Cond.code ({ cls := "ApartBenchModel", name := "takeOver", desc := "()V" } : Jvm.MethodName) prog_20_method_38_code (1 : Nat) (Option.none : Option Jvm.ClassFile.FieldType)) ∈ lw_all := lw_g (lw_at lw_m9 28 rfl) rfl
theorem q2054 : (Jvm.Cond.methodLink "ApartBenchModel" (307 : Nat) ({ cls := "ApartBenchModel", name := "takeHalf", desc := "([I)V" } : Jvm.MethodName)) ∈ lw_all := lw_g (lw_at lw_m9 29 rfl) rfl
theorem q2055 : (Jvm.Cond.static ({ cls := "ApartBenchModel", name := "takeHalf", desc := "([I)V" } : Jvm.MethodName)) ∈ lw_all := lw_g (lw_at lw_m9 30 rfl) rfl
theorem q2056 : (Jvm.Cond.code ({ cls := "ApartBenchModel", name := "takeHalf", desc := "([I)V" } : Jvm.MethodName) prog_20_method_37_code (2 : Nat) (Option.none : Option Jvm.ClassFile.FieldType)) ∈ lw_all := lw_g (lw_at lw_m9 31 rfl) rfl
theorem q2057 : (Jvm.Cond.methodLink "ApartBenchModel" (333 : Nat) ({ cls := "ApartBenchModel", name := "tellFar", desc := "()V" } : Jvm.MethodName)) ∈ lw_all := lw_g (lw_at lw_m9 32 rfl) rfl
theorem q2058 : (Jvm.Cond.privateMethod ({ cls := "ApartBenchModel", name := "tellFar", desc := "()V" } : Jvm.MethodName)) ∈ lw_tbl := lw_at lw_m9 33 rfl
theorem q2059 : (Jvm.Cond.instanceMethod ({ cls := "ApartBenchModel", name := "tellFar", desc := "()V" } : Jvm.MethodName)) ∈ lw_all := lw_g (lw_at lw_m9 34 rfl) rfl
theorem q2060 : (Jvm.Cond.code ({ cls := "ApartBenchModel", name := "tellFar", desc := "()V" } : Jvm.MethodName) prog_20_method_40_code (4 : Nat) (Option.none : Option Jvm.ClassFile.FieldType)) ∈ lw_all := lw_g (lw_at lw_m9 35 rfl) rfl
theorem q2062 : (Jvm.Cond.instanceMethod ({ cls := "ApartBenchModel", name := "fault", desc := "()I" } : Jvm.MethodName)) ∈ lw_all := lw_g (lw_at lw_m9 37 rfl) rfl
theorem q2063 : (Jvm.Cond.selects "ApartBenchModel" ({ cls := "ApartBenchModel", name := "fault", desc := "()I" } : Jvm.MethodName) ({ cls := "ApartBenchModel", name := "fault", desc := "()I" } : Jvm.MethodName)) ∈ lw_all := lw_g (lw_at lw_m9 38 rfl) rfl
theorem q2064 : (Jvm.Cond.code ({ cls := "ApartBenchModel", name := "fault", desc := "()I" } : Jvm.MethodName) prog_20_method_39_code (1 : Nat) (Option.some Jvm.ClassFile.FieldType.int)) ∈ lw_all := lw_g (lw_at lw_m9 39 rfl) rfl
theorem q2066 : (Jvm.Cond.instanceMethod ({ cls := "ApartBenchModel", name := "count", desc := "(I)I" } : Jvm.MethodName)) ∈ lw_all := lw_g (lw_at lw_m9 41 rfl) rfl
theorem q2067 : (Jvm.Cond.selects "ApartBenchModel" ({ cls := "ApartBenchModel", name := "count", desc := "(I)I" } : Jvm.MethodName) ({ cls := "ApartBenchModel", name := "count", desc := "(I)I" } : Jvm.MethodName)) ∈ lw_all := lw_g (lw_at lw_m9 42 rfl) rfl
theorem q2068 : (Jvm.Cond.code ({ cls := "ApartBenchModel", name := "count", desc := "(I)I" } : Jvm.MethodName) prog_20_method_66_code (2 : Nat) (Option.some Jvm.ClassFile.FieldType.int)) ∈ lw_all := lw_g (lw_at lw_m9 43 rfl) rfl
theorem q2069 : (Jvm.Cond.methodLink "ApartBenchModel" (410 : Nat) ({ cls := "ApartBenchModel", name := "tellNow", desc := "()I" } : Jvm.MethodName)) ∈ lw_all := lw_g (lw_at lw_m9 44 rfl) rfl
theorem q2070 : (Jvm.Cond.privateMethod ({ cls := "ApartBenchModel", name := "tellNow", desc := "()I" } : Jvm.MethodName)) ∈ lw_tbl := lw_at lw_m9 45 rfl
theorem q2071 : (Jvm.Cond.instanceMethod ({ cls := "ApartBenchModel", name := "tellNow", desc := "()I" } : Jvm.MethodName)) ∈ lw_all := lw_g (lw_at lw_m9 46 rfl) rfl
theorem q2072 : (Jvm.Cond.code ({ cls := "ApartBenchModel", name := "tellNow", desc := "()I" } : Jvm.MethodName) prog_20_method_63_code (1 : Nat) (Option.some Jvm.ClassFile.FieldType.int)) ∈ lw_all := lw_g (lw_at lw_m9 47 rfl) rfl
theorem q2073 : (Jvm.Cond.methodLink "ApartBenchModel" (404 : Nat) ({ cls := "ApartBenchModel", name := "set", desc := "()V" } : Jvm.MethodName)) ∈ lw_all := lw_g (lw_at lw_m9 48 rfl) rfl
theorem q2074 : (Jvm.Cond.privateMethod ({ cls := "ApartBenchModel", name := "set", desc := "()V" } : Jvm.MethodName)) ∈ lw_tbl := lw_at lw_m9 49 rfl
theorem q2075 : (Jvm.Cond.instanceMethod ({ cls := "ApartBenchModel", name := "set", desc := "()V" } : Jvm.MethodName)) ∈ lw_all := lw_g (lw_at lw_m9 50 rfl) rfl
theorem q2076 : (Jvm.Cond.code ({ cls := "ApartBenchModel", name := "set", desc := "()V" } : Jvm.MethodName) prog_20_method_46_code (2 : Nat) (Option.none : Option Jvm.ClassFile.FieldType)) ∈ lw_all := lw_g (lw_at lw_m9 51 rfl) rfl
theorem q2077 : (Jvm.Cond.methodLink "ApartBenchModel" (407 : Nat) ({ cls := "ApartBenchModel", name := "tell", desc := "()I" } : Jvm.MethodName)) ∈ lw_all := lw_g (lw_at lw_m9 52 rfl) rfl
theorem q2078 : (Jvm.Cond.privateMethod ({ cls := "ApartBenchModel", name := "tell", desc := "()I" } : Jvm.MethodName)) ∈ lw_tbl := lw_at lw_m9 53 rfl
theorem q2079 : (Jvm.Cond.instanceMethod ({ cls := "ApartBenchModel", name := "tell", desc := "()I" } : Jvm.MethodName)) ∈ lw_all := lw_g (lw_at lw_m9 54 rfl) rfl
theorem q2080 : (Jvm.Cond.code ({ cls := "ApartBenchModel", name := "tell", desc := "()I" } : Jvm.MethodName) prog_20_method_61_code (4 : Nat) (Option.some Jvm.ClassFile.FieldType.int)) ∈ lw_all := lw_g (lw_at lw_m9 55 rfl) rfl
theorem q2081 : (Jvm.Cond.methodLink "ApartBenchModel" (388 : Nat) ({ cls := "ApartBenchModel", name := "tellStops", desc := "()V" } : Jvm.MethodName)) ∈ lw_all := lw_g (lw_at lw_m9 56 rfl) rfl
theorem q2082 : (Jvm.Cond.privateMethod ({ cls := "ApartBenchModel", name := "tellStops", desc := "()V" } : Jvm.MethodName)) ∈ lw_tbl := lw_at lw_m9 57 rfl
theorem q2083 : (Jvm.Cond.instanceMethod ({ cls := "ApartBenchModel", name := "tellStops", desc := "()V" } : Jvm.MethodName)) ∈ lw_all := lw_g (lw_at lw_m9 58 rfl) rfl
theorem q2084 : (Jvm.Cond.code ({ cls := "ApartBenchModel", name := "tellStops", desc := "()V" } : Jvm.MethodName) prog_20_method_47_code (5 : Nat) (Option.none : Option Jvm.ClassFile.FieldType)) ∈ lw_all := lw_g (lw_at lw_m9 59 rfl) rfl
theorem q2085 : (Jvm.Cond.methodLink "ApartBenchModel" (391 : Nat) ({ cls := "ApartBenchModel", name := "tellMeetings", desc := "()V" } : Jvm.MethodName)) ∈ lw_all := lw_g (lw_at lw_m9 60 rfl) rfl
theorem q2086 : (Jvm.Cond.privateMethod ({ cls := "ApartBenchModel", name := "tellMeetings", desc := "()V" } : Jvm.MethodName)) ∈ lw_tbl := lw_at lw_m9 61 rfl
theorem q2087 : (Jvm.Cond.instanceMethod ({ cls := "ApartBenchModel", name := "tellMeetings", desc := "()V" } : Jvm.MethodName)) ∈ lw_all := lw_g (lw_at lw_m9 62 rfl) rfl
theorem q2088 : (Jvm.Cond.code ({ cls := "ApartBenchModel", name := "tellMeetings", desc := "()V" } : Jvm.MethodName) prog_20_method_50_code (6 : Nat) (Option.none : Option Jvm.ClassFile.FieldType)) ∈ lw_all := lw_g (lw_at lw_m9 63 rfl) rfl
theorem q2089 : (Jvm.Cond.methodLink "ApartBenchModel" (346 : Nat) ({ cls := "ApartBenchModel", name := "townOn", desc := "(II)I" } : Jvm.MethodName)) ∈ lw_all := lw_g (lw_at lw_m9 64 rfl) rfl
theorem q2090 : (Jvm.Cond.privateMethod ({ cls := "ApartBenchModel", name := "townOn", desc := "(II)I" } : Jvm.MethodName)) ∈ lw_tbl := lw_at lw_m9 65 rfl
theorem q2091 : (Jvm.Cond.instanceMethod ({ cls := "ApartBenchModel", name := "townOn", desc := "(II)I" } : Jvm.MethodName)) ∈ lw_all := lw_g (lw_at lw_m9 66 rfl) rfl
theorem q2092 : (Jvm.Cond.code ({ cls := "ApartBenchModel", name := "townOn", desc := "(II)I" } : Jvm.MethodName) prog_20_method_48_code (4 : Nat) (Option.some Jvm.ClassFile.FieldType.int)) ∈ lw_all := lw_g (lw_at lw_m9 67 rfl) rfl
theorem q2093 : (Jvm.Cond.methodLink "ApartBenchModel" (349 : Nat) ({ cls := "ApartBenchModel", name := "isMeeting", desc := "(III)Z" } : Jvm.MethodName)) ∈ lw_all := lw_g (lw_at lw_m9 68 rfl) rfl
theorem q2094 : (Jvm.Cond.privateMethod ({ cls := "ApartBenchModel", name := "isMeeting", desc := "(III)Z" } : Jvm.MethodName)) ∈ lw_tbl := lw_at lw_m9 69 rfl
theorem q2095 : (Jvm.Cond.instanceMethod ({ cls := "ApartBenchModel", name := "isMeeting", desc := "(III)Z" } : Jvm.MethodName)) ∈ lw_all := lw_g (lw_at lw_m9 70 rfl) rfl
theorem q2096 : (Jvm.Cond.code ({ cls := "ApartBenchModel", name := "isMeeting", desc := "(III)Z" } : Jvm.MethodName) prog_20_method_49_code (7 : Nat) (Option.some Jvm.ClassFile.FieldType.boolean)) ∈ lw_all := lw_g (lw_at lw_m9 71 rfl) rfl
theorem q2097 : (Jvm.Cond.methodLink "ApartBenchModel" (394 : Nat) ({ cls := "ApartBenchModel", name := "hear", desc := "(III)V" } : Jvm.MethodName)) ∈ lw_all := lw_g (lw_at lw_m9 72 rfl) rfl
theorem q2098 : (Jvm.Cond.privateMethod ({ cls := "ApartBenchModel", name := "hear", desc := "(III)V" } : Jvm.MethodName)) ∈ lw_tbl := lw_at lw_m9 73 rfl
theorem q2099 : (Jvm.Cond.instanceMethod ({ cls := "ApartBenchModel", name := "hear", desc := "(III)V" } : Jvm.MethodName)) ∈ lw_all := lw_g (lw_at lw_m9 74 rfl) rfl
theorem q2100 : (Jvm.Cond.code ({ cls := "ApartBenchModel", name := "hear", desc := "(III)V" } : Jvm.MethodName) prog_20_method_54_code (6 : Nat) (Option.none : Option Jvm.ClassFile.FieldType)) ∈ lw_all := lw_g (lw_at lw_m9 75 rfl) rfl
theorem q2101 : (Jvm.Cond.methodLink "ApartBenchModel" (359 : Nat) ({ cls := "ApartBenchModel", name := "isFeast", desc := "(II)Z" } : Jvm.MethodName)) ∈ lw_all := lw_g (lw_at lw_m9 76 rfl) rfl
theorem q2102 : (Jvm.Cond.privateMethod ({ cls := "ApartBenchModel", name := "isFeast", desc := "(II)Z" } : Jvm.MethodName)) ∈ lw_tbl := lw_at lw_m9 77 rfl
theorem q2103 : (Jvm.Cond.instanceMethod ({ cls := "ApartBenchModel", name := "isFeast", desc := "(II)Z" } : Jvm.MethodName)) ∈ lw_all := lw_g (lw_at lw_m9 78 rfl) rfl
theorem q2104 : (Jvm.Cond.code ({ cls := "ApartBenchModel", name := "isFeast", desc := "(II)Z" } : Jvm.MethodName) prog_20_method_51_code (4 : Nat) (Option.some Jvm.ClassFile.FieldType.boolean)) ∈ lw_all := lw_g (lw_at lw_m9 79 rfl) rfl
theorem q2105 : (Jvm.Cond.methodLink "ApartBenchModel" (362 : Nat) ({ cls := "ApartBenchModel", name := "holds", desc := "(IIII)Z" } : Jvm.MethodName)) ∈ lw_all := lw_g (lw_at lw_m9 80 rfl) rfl
theorem q2106 : (Jvm.Cond.privateMethod ({ cls := "ApartBenchModel", name := "holds", desc := "(IIII)Z" } : Jvm.MethodName)) ∈ lw_tbl := lw_at lw_m9 81 rfl
theorem q2107 : (Jvm.Cond.instanceMethod ({ cls := "ApartBenchModel", name := "holds", desc := "(IIII)Z" } : Jvm.MethodName)) ∈ lw_all := lw_g (lw_at lw_m9 82 rfl) rfl
theorem q2108 : (Jvm.Cond.code ({ cls := "ApartBenchModel", name := "holds", desc := "(IIII)Z" } : Jvm.MethodName) prog_20_method_53_code (7 : Nat) (Option.some Jvm.ClassFile.FieldType.boolean)) ∈ lw_all := lw_g (lw_at lw_m9 83 rfl) rfl
theorem q2109 : (Jvm.Cond.methodLink "ApartBenchModel" (353 : Nat) ({ cls := "ApartBenchModel", name := "saidAhead", desc := "(II)I" } : Jvm.MethodName)) ∈ lw_all := lw_g (lw_at lw_m9 84 rfl) rfl
theorem q2110 : (Jvm.Cond.privateMethod ({ cls := "ApartBenchModel", name := "saidAhead", desc := "(II)I" } : Jvm.MethodName)) ∈ lw_tbl := lw_at lw_m9 85 rfl
theorem q2111 : (Jvm.Cond.instanceMethod ({ cls := "ApartBenchModel", name := "saidAhead", desc := "(II)I" } : Jvm.MethodName)) ∈ lw_all := lw_g (lw_at lw_m9 86 rfl) rfl
theorem q2112 : (Jvm.Cond.code ({ cls := "ApartBenchModel", name := "saidAhead", desc := "(II)I" } : Jvm.MethodName) prog_20_method_52_code (5 : Nat) (Option.some Jvm.ClassFile.FieldType.int)) ∈ lw_all := lw_g (lw_at lw_m9 87 rfl) rfl
theorem q2113 : (Jvm.Cond.methodLink "ApartBenchModel" (356 : Nat) ({ cls := "ApartBenchModel", name := "valueNow", desc := "()I" } : Jvm.MethodName)) ∈ lw_all := lw_g (lw_at lw_m9 88 rfl) rfl
theorem q2114 : (Jvm.Cond.privateMethod ({ cls := "ApartBenchModel", name := "valueNow", desc := "()I" } : Jvm.MethodName)) ∈ lw_tbl := lw_at lw_m9 89 rfl
theorem q2115 : (Jvm.Cond.instanceMethod ({ cls := "ApartBenchModel", name := "valueNow", desc := "()I" } : Jvm.MethodName)) ∈ lw_all := lw_g (lw_at lw_m9 90 rfl) rfl
theorem q2116 : (Jvm.Cond.code ({ cls := "ApartBenchModel", name := "valueNow", desc := "()I" } : Jvm.MethodName) prog_20_method_45_code (4 : Nat) (Option.some Jvm.ClassFile.FieldType.int)) ∈ lw_all := lw_g (lw_at lw_m9 91 rfl) rfl
theorem q2117 : (Jvm.Cond.methodLink "ApartBenchModel" (336 : Nat) ({ cls := "ApartBenchModel", name := "reckon", desc := "(III)I" } : Jvm.MethodName)) ∈ lw_all := lw_g (lw_at lw_m9 92 rfl) rfl
theorem q2118 : (Jvm.Cond.static ({ cls := "ApartBenchModel", name := "reckon", desc := "(III)I" } : Jvm.MethodName)) ∈ lw_all := lw_g (lw_at lw_m9 93 rfl) rfl
theorem q2119 : (Jvm.Cond.code ({ cls := "ApartBenchModel", name := "reckon", desc := "(III)I" } : Jvm.MethodName) prog_20_method_44_code (3 : Nat) (Option.some Jvm.ClassFile.FieldType.int)) ∈ lw_all := lw_g (lw_at lw_m9 94 rfl) rfl
theorem q2120 : (Jvm.Cond.methodLink "ApartBenchModel" (398 : Nat) ({ cls := "ApartBenchModel", name := "judgeAll", desc := "()I" } : Jvm.MethodName)) ∈ lw_all := lw_g (lw_at lw_m9 95 rfl) rfl
theorem q2121 : (Jvm.Cond.privateMethod ({ cls := "ApartBenchModel", name := "judgeAll", desc := "()I" } : Jvm.MethodName)) ∈ lw_tbl := lw_at lw_m9 96 rfl
theorem q2122 : (Jvm.Cond.instanceMethod ({ cls := "ApartBenchModel", name := "judgeAll", desc := "()I" } : Jvm.MethodName)) ∈ lw_all := lw_g (lw_at lw_m9 97 rfl) rfl
theorem q2123 : (Jvm.Cond.code ({ cls := "ApartBenchModel", name := "judgeAll", desc := "()I" } : Jvm.MethodName) prog_20_method_62_code (3 : Nat) (Option.some Jvm.ClassFile.FieldType.int)) ∈ lw_all := lw_g (lw_at lw_m9 98 rfl) rfl
theorem q2124 : (Jvm.Cond.methodLink "ApartBenchModel" (401 : Nat) ({ cls := "ApartBenchModel", name := "judgeCase", desc := "(I)V" } : Jvm.MethodName)) ∈ lw_all := lw_g (lw_at lw_m9 99 rfl) rfl
theorem q2125 : (Jvm.Cond.privateMethod ({ cls := "ApartBenchModel", name := "judgeCase", desc := "(I)V" } : Jvm.MethodName)) ∈ lw_tbl := lw_at lw_m9 100 rfl
theorem q2126 : (Jvm.Cond.instanceMethod ({ cls := "ApartBenchModel", name := "judgeCase", desc := "(I)V" } : Jvm.MethodName)) ∈ lw_all := lw_g (lw_at lw_m9 101 rfl) rfl
theorem q2127 : (Jvm.Cond.code ({ cls := "ApartBenchModel", name := "judgeCase", desc := "(I)V" } : Jvm.MethodName) prog_20_method_60_code (6 : Nat) (Option.none : Option Jvm.ClassFile.FieldType)) ∈ lw_all := lw_g (lw_at lw_m9 102 rfl) rfl
theorem q2128 : (Jvm.Cond.methodLink "ApartBenchModel" (381 : Nat) ({ cls := "ApartBenchModel", name := "isVoided", desc := "(II)Z" } : Jvm.MethodName)) ∈ lw_all := lw_g (lw_at lw_m9 103 rfl) rfl
theorem q2129 : (Jvm.Cond.privateMethod ({ cls := "ApartBenchModel", name := "isVoided", desc := "(II)Z" } : Jvm.MethodName)) ∈ lw_tbl := lw_at lw_m9 104 rfl
theorem q2130 : (Jvm.Cond.instanceMethod ({ cls := "ApartBenchModel", name := "isVoided", desc := "(II)Z" } : Jvm.MethodName)) ∈ lw_all := lw_g (lw_at lw_m9 105 rfl) rfl
theorem q2131 : (Jvm.Cond.code ({ cls := "ApartBenchModel", name := "isVoided", desc := "(II)Z" } : Jvm.MethodName) prog_20_method_57_code (8 : Nat) (Option.some Jvm.ClassFile.FieldType.boolean)) ∈ lw_all := lw_g (lw_at lw_m9 106 rfl) rfl
theorem q2132 : (Jvm.Cond.methodLink "ApartBenchModel" (369 : Nat) ({ cls := "ApartBenchModel", name := "newsByWord", desc := "(II)I" } : Jvm.MethodName)) ∈ lw_all := lw_g (lw_at lw_m9 107 rfl) rfl
theorem q2133 : (Jvm.Cond.privateMethod ({ cls := "ApartBenchModel", name := "newsByWord", desc := "(II)I" } : Jvm.MethodName)) ∈ lw_tbl := lw_at lw_m9 108 rfl
theorem q2134 : (Jvm.Cond.instanceMethod ({ cls := "ApartBenchModel", name := "newsByWord", desc := "(II)I" } : Jvm.MethodName)) ∈ lw_all := lw_g (lw_at lw_m9 109 rfl) rfl
theorem q2135 : (Jvm.Cond.code ({ cls := "ApartBenchModel", name := "newsByWord", desc := "(II)I" } : Jvm.MethodName) prog_20_method_56_code (5 : Nat) (Option.some Jvm.ClassFile.FieldType.int)) ∈ lw_all := lw_g (lw_at lw_m9 110 rfl) rfl
theorem q2136 : (Jvm.Cond.methodLink "ApartBenchModel" (366 : Nat) ({ cls := "ApartBenchModel", name := "newsDays", desc := "(II)I" } : Jvm.MethodName)) ∈ lw_all := lw_g (lw_at lw_m9 111 rfl) rfl
theorem q2137 : (Jvm.Cond.privateMethod ({ cls := "ApartBenchModel", name := "newsDays", desc := "(II)I" } : Jvm.MethodName)) ∈ lw_tbl := lw_at lw_m9 112 rfl
theorem q2138 : (Jvm.Cond.instanceMethod ({ cls := "ApartBenchModel", name := "newsDays", desc := "(II)I" } : Jvm.MethodName)) ∈ lw_all := lw_g (lw_at lw_m9 113 rfl) rfl
theorem q2139 : (Jvm.Cond.code ({ cls := "ApartBenchModel", name := "newsDays", desc := "(II)I" } : Jvm.MethodName) prog_20_method_41_code (4 : Nat) (Option.some Jvm.ClassFile.FieldType.int)) ∈ lw_all := lw_g (lw_at lw_m9 114 rfl) rfl
theorem q2140 : (Jvm.Cond.methodLink "ApartBenchModel" (372 : Nat) ({ cls := "ApartBenchModel", name := "newsBy", desc := "(III)I" } : Jvm.MethodName)) ∈ lw_all := lw_g (lw_at lw_m9 115 rfl) rfl
theorem q2141 : (Jvm.Cond.privateMethod ({ cls := "ApartBenchModel", name := "newsBy", desc := "(III)I" } : Jvm.MethodName)) ∈ lw_tbl := lw_at lw_m9 116 rfl
theorem q2142 : (Jvm.Cond.instanceMethod ({ cls := "ApartBenchModel", name := "newsBy", desc := "(III)I" } : Jvm.MethodName)) ∈ lw_all := lw_g (lw_at lw_m9 117 rfl) rfl
theorem q2143 : (Jvm.Cond.code ({ cls := "ApartBenchModel", name := "newsBy", desc := "(III)I" } : Jvm.MethodName) prog_20_method_55_code (5 : Nat) (Option.some Jvm.ClassFile.FieldType.int)) ∈ lw_all := lw_g (lw_at lw_m9 118 rfl) rfl
theorem q2144 : (Jvm.Cond.methodLink "ApartBenchModel" (384 : Nat) ({ cls := "ApartBenchModel", name := "three", desc := "(IIII)I" } : Jvm.MethodName)) ∈ lw_all := lw_g (lw_at lw_m9 119 rfl) rfl
theorem q2145 : (Jvm.Cond.privateMethod ({ cls := "ApartBenchModel", name := "three", desc := "(IIII)I" } : Jvm.MethodName)) ∈ lw_tbl := lw_at lw_m9 120 rfl
theorem q2146 : (Jvm.Cond.instanceMethod ({ cls := "ApartBenchModel", name := "three", desc := "(IIII)I" } : Jvm.MethodName)) ∈ lw_all := lw_g (lw_at lw_m9 121 rfl) rfl
theorem q2147 : (Jvm.Cond.code ({ cls := "ApartBenchModel", name := "three", desc := "(IIII)I" } : Jvm.MethodName) prog_20_method_59_code (9 : Nat) (Option.some Jvm.ClassFile.FieldType.int)) ∈ lw_all := lw_g (lw_at lw_m9 122 rfl) rfl
theorem q2148 : (Jvm.Cond.methodLink "ApartBenchModel" (375 : Nat) ({ cls := "ApartBenchModel", name := "isGood", desc := "(II)Z" } : Jvm.MethodName)) ∈ lw_all := lw_g (lw_at lw_m9 123 rfl) rfl
theorem q2149 : (Jvm.Cond.privateMethod ({ cls := "ApartBenchModel", name := "isGood", desc := "(II)Z" } : Jvm.MethodName)) ∈ lw_tbl := lw_at lw_m9 124 rfl
theorem q2150 : (Jvm.Cond.instanceMethod ({ cls := "ApartBenchModel", name := "isGood", desc := "(II)Z" } : Jvm.MethodName)) ∈ lw_all := lw_g (lw_at lw_m9 125 rfl) rfl
theorem q2151 : (Jvm.Cond.code ({ cls := "ApartBenchModel", name := "isGood", desc := "(II)Z" } : Jvm.MethodName) prog_20_method_58_code (4 : Nat) (Option.some Jvm.ClassFile.FieldType.boolean)) ∈ lw_all := lw_g (lw_at lw_m9 126 rfl) rfl
theorem q2152 : (Jvm.Cond.methodLink "ApartBenchModel" (378 : Nat) ({ cls := "java/lang/Math", name := "max", desc := "(II)I" } : Jvm.MethodName)) ∈ lw_all := lw_g (lw_at lw_m9 127 rfl) rfl
theorem q2154 : (Jvm.Cond.instanceMethod ({ cls := "ApartBenchModel", name := "far", desc := "(III)I" } : Jvm.MethodName)) ∈ lw_all := lw_g (lw_at lw_m9 129 rfl) rfl
theorem q2155 : (Jvm.Cond.selects "ApartBenchModel" ({ cls := "ApartBenchModel", name := "far", desc := "(III)I" } : Jvm.MethodName) ({ cls := "ApartBenchModel", name := "far", desc := "(III)I" } : Jvm.MethodName)) ∈ lw_all := lw_g (lw_at lw_m9 130 rfl) rfl
theorem q2156 : (Jvm.Cond.code ({ cls := "ApartBenchModel", name := "far", desc := "(III)I" } : Jvm.MethodName) prog_20_method_67_code (4 : Nat) (Option.some Jvm.ClassFile.FieldType.int)) ∈ lw_all := lw_g (lw_at lw_m9 131 rfl) rfl
theorem q2157 : (Jvm.Cond.methodLink "ApartBenchModel" (413 : Nat) ({ cls := "ApartBenchModel", name := "isTown", desc := "(I)Z" } : Jvm.MethodName)) ∈ lw_all := lw_g (lw_at lw_m9 132 rfl) rfl
theorem q2158 : (Jvm.Cond.privateMethod ({ cls := "ApartBenchModel", name := "isTown", desc := "(I)Z" } : Jvm.MethodName)) ∈ lw_tbl := lw_at lw_m9 133 rfl
theorem q2159 : (Jvm.Cond.instanceMethod ({ cls := "ApartBenchModel", name := "isTown", desc := "(I)Z" } : Jvm.MethodName)) ∈ lw_all := lw_g (lw_at lw_m9 134 rfl) rfl
theorem q2160 : (Jvm.Cond.code ({ cls := "ApartBenchModel", name := "isTown", desc := "(I)Z" } : Jvm.MethodName) prog_20_method_5_code (2 : Nat) (Option.some Jvm.ClassFile.FieldType.boolean)) ∈ lw_all := lw_g (lw_at lw_m9 135 rfl) rfl
theorem q2161 : (Jvm.Cond.methodLink "ApartBenchModel" (153 : Nat) ({ cls := "ApartBenchModel", name := "isIn", desc := "(JJJ)Z" } : Jvm.MethodName)) ∈ lw_all := lw_g (lw_at lw_m9 136 rfl) rfl
theorem q2162 : (Jvm.Cond.static ({ cls := "ApartBenchModel", name := "isIn", desc := "(JJJ)Z" } : Jvm.MethodName)) ∈ lw_all := lw_g (lw_at lw_m9 137 rfl) rfl
theorem q2163 : (Jvm.Cond.code ({ cls := "ApartBenchModel", name := "isIn", desc := "(JJJ)Z" } : Jvm.MethodName) prog_20_method_4_code (6 : Nat) (Option.some Jvm.ClassFile.FieldType.boolean)) ∈ lw_all := lw_g (lw_at lw_m9 138 rfl) rfl
theorem q2164 : (Jvm.Cond.methodLink "ApartBenchModel" (416 : Nat) ({ cls := "ApartBenchModel", name := "orNone", desc := "(I)I" } : Jvm.MethodName)) ∈ lw_all := lw_g (lw_at lw_m9 139 rfl) rfl
theorem q2165 : (Jvm.Cond.static ({ cls := "ApartBenchModel", name := "orNone", desc := "(I)I" } : Jvm.MethodName)) ∈ lw_all := lw_g (lw_at lw_m9 140 rfl) rfl
theorem q2166 : (Jvm.Cond.code ({ cls := "ApartBenchModel", name := "orNone", desc := "(I)I" } : Jvm.MethodName) prog_20_method_64_code (1 : Nat) (Option.some Jvm.ClassFile.FieldType.int)) ∈ lw_all := lw_g (lw_at lw_m9 141 rfl) rfl
theorem q2168 : (Jvm.Cond.instanceMethod ({ cls := "ApartBenchModel", name := "judge", desc := "(II)I" } : Jvm.MethodName)) ∈ lw_all := lw_g (lw_at lw_m9 143 rfl) rfl
theorem q2169 : (Jvm.Cond.selects "ApartBenchModel" ({ cls := "ApartBenchModel", name := "judge", desc := "(II)I" } : Jvm.MethodName) ({ cls := "ApartBenchModel", name := "judge", desc := "(II)I" } : Jvm.MethodName)) ∈ lw_all := lw_g (lw_at lw_m9 144 rfl) rfl
theorem q2170 : (Jvm.Cond.code ({ cls := "ApartBenchModel", name := "judge", desc := "(II)I" } : Jvm.MethodName) prog_20_method_68_code (3 : Nat) (Option.some Jvm.ClassFile.FieldType.int)) ∈ lw_all := lw_g (lw_at lw_m9 145 rfl) rfl
theorem q2171 : (Jvm.Cond.methodLink "ApartBenchModel" (419 : Nat) ({ cls := "ApartBenchModel", name := "isJudge", desc := "(I)Z" } : Jvm.MethodName)) ∈ lw_all := lw_g (lw_at lw_m9 146 rfl) rfl
theorem q2172 : (Jvm.Cond.privateMethod ({ cls := "ApartBenchModel", name := "isJudge", desc := "(I)Z" } : Jvm.MethodName)) ∈ lw_tbl := lw_at lw_m9 147 rfl
theorem q2173 : (Jvm.Cond.instanceMethod ({ cls := "ApartBenchModel", name := "isJudge", desc := "(I)Z" } : Jvm.MethodName)) ∈ lw_all := lw_g (lw_at lw_m9 148 rfl) rfl
theorem q2174 : (Jvm.Cond.code ({ cls := "ApartBenchModel", name := "isJudge", desc := "(I)Z" } : Jvm.MethodName) prog_20_method_6_code (2 : Nat) (Option.some Jvm.ClassFile.FieldType.boolean)) ∈ lw_all := lw_g (lw_at lw_m9 149 rfl) rfl
theorem q2175 : (Jvm.Cond.constantLong "ApartBenchModel" (422 : Nat) (4 : Int64)) ∈ lw_all := lw_g (lw_at lw_m9 150 rfl) rfl
theorem q2177 : (Jvm.Cond.instanceMethod ({ cls := "ApartBenchModel", name := "stop", desc := "(III)I" } : Jvm.MethodName)) ∈ lw_all := lw_g (lw_at lw_m9 152 rfl) rfl
theorem q2178 : (Jvm.Cond.selects "ApartBenchModel" ({ cls := "ApartBenchModel", name := "stop", desc := "(III)I" } : Jvm.MethodName) ({ cls := "ApartBenchModel", name := "stop", desc := "(III)I" } : Jvm.MethodName)) ∈ lw_all := lw_g (lw_at lw_m9 153 rfl) rfl
theorem q2179 : (Jvm.Cond.code ({ cls := "ApartBenchModel", name := "stop", desc := "(III)I" } : Jvm.MethodName) prog_20_method_69_code (4 : Nat) (Option.some Jvm.ClassFile.FieldType.int)) ∈ lw_all := lw_g (lw_at lw_m9 154 rfl) rfl
theorem q2181 : (Jvm.Cond.instanceMethod ({ cls := "ApartBenchModel", name := "where", desc := "(II)I" } : Jvm.MethodName)) ∈ lw_all := lw_g (lw_at lw_m9 156 rfl) rfl
theorem q2182 : (Jvm.Cond.selects "ApartBenchModel" ({ cls := "ApartBenchModel", name := "where", desc := "(II)I" } : Jvm.MethodName) ({ cls := "ApartBenchModel", name := "where", desc := "(II)I" } : Jvm.MethodName)) ∈ lw_all := lw_g (lw_at lw_m9 157 rfl) rfl
theorem q2183 : (Jvm.Cond.code ({ cls := "ApartBenchModel", name := "where", desc := "(II)I" } : Jvm.MethodName) prog_20_method_70_code (3 : Nat) (Option.some Jvm.ClassFile.FieldType.int)) ∈ lw_all := lw_g (lw_at lw_m9 158 rfl) rfl
theorem q2185 : (Jvm.Cond.instanceMethod ({ cls := "ApartBenchModel", name := "proof", desc := "(II)I" } : Jvm.MethodName)) ∈ lw_all := lw_g (lw_at lw_m9 160 rfl) rfl
theorem q2186 : (Jvm.Cond.selects "ApartBenchModel" ({ cls := "ApartBenchModel", name := "proof", desc := "(II)I" } : Jvm.MethodName) ({ cls := "ApartBenchModel", name := "proof", desc := "(II)I" } : Jvm.MethodName)) ∈ lw_all := lw_g (lw_at lw_m9 161 rfl) rfl
theorem q2187 : (Jvm.Cond.code ({ cls := "ApartBenchModel", name := "proof", desc := "(II)I" } : Jvm.MethodName) prog_20_method_71_code (3 : Nat) (Option.some Jvm.ClassFile.FieldType.int)) ∈ lw_all := lw_g (lw_at lw_m9 162 rfl) rfl
theorem q2188 : (Jvm.Cond.methodLink "ApartBenchModel" (424 : Nat) ({ cls := "ApartBenchModel", name := "isCase", desc := "(I)Z" } : Jvm.MethodName)) ∈ lw_all := lw_g (lw_at lw_m9 163 rfl) rfl
theorem q2189 : (Jvm.Cond.privateMethod ({ cls := "ApartBenchModel", name := "isCase", desc := "(I)Z" } : Jvm.MethodName)) ∈ lw_tbl := lw_at lw_m9 164 rfl
theorem q2190 : (Jvm.Cond.instanceMethod ({ cls := "ApartBenchModel", name := "isCase", desc := "(I)Z" } : Jvm.MethodName)) ∈ lw_all := lw_g (lw_at lw_m9 165 rfl) rfl
theorem q2191 : (Jvm.Cond.code ({ cls := "ApartBenchModel", name := "isCase", desc := "(I)Z" } : Jvm.MethodName) prog_20_method_7_code (2 : Nat) (Option.some Jvm.ClassFile.FieldType.boolean)) ∈ lw_all := lw_g (lw_at lw_m9 166 rfl) rfl
theorem q2193 : (Jvm.Cond.instanceMethod ({ cls := "ApartBenchModel", name := "said", desc := "(III)I" } : Jvm.MethodName)) ∈ lw_all := lw_g (lw_at lw_m9 168 rfl) rfl
theorem q2194 : (Jvm.Cond.selects "ApartBenchModel" ({ cls := "ApartBenchModel", name := "said", desc := "(III)I" } : Jvm.MethodName) ({ cls := "ApartBenchModel", name := "said", desc := "(III)I" } : Jvm.MethodName)) ∈ lw_all := lw_g (lw_at lw_m9 169 rfl) rfl
theorem q2195 : (Jvm.Cond.code ({ cls := "ApartBenchModel", name := "said", desc := "(III)I" } : Jvm.MethodName) prog_20_method_72_code (5 : Nat) (Option.some Jvm.ClassFile.FieldType.int)) ∈ lw_all := lw_g (lw_at lw_m9 170 rfl) rfl
theorem q2196 : (Jvm.Cond.constantLong "ApartBenchModel" (427 : Nat) (3 : Int64)) ∈ lw_all := lw_g (lw_at lw_m9 171 rfl) rfl
theorem q2198 : (Jvm.Cond.instanceMethod ({ cls := "ApartBenchModel", name := "met", desc := "(II)I" } : Jvm.MethodName)) ∈ lw_all := lw_g (lw_at lw_m9 173 rfl) rfl
theorem q2199 : (Jvm.Cond.selects "ApartBenchModel" ({ cls := "ApartBenchModel", name := "met", desc := "(II)I" } : Jvm.MethodName) ({ cls := "ApartBenchModel", name := "met", desc := "(II)I" } : Jvm.MethodName)) ∈ lw_all := lw_g (lw_at lw_m9 174 rfl) rfl
theorem q2200 : (Jvm.Cond.code ({ cls := "ApartBenchModel", name := "met", desc := "(II)I" } : Jvm.MethodName) prog_20_method_73_code (3 : Nat) (Option.some Jvm.ClassFile.FieldType.int)) ∈ lw_all := lw_g (lw_at lw_m9 175 rfl) rfl
theorem q2202 : (Jvm.Cond.instanceMethod ({ cls := "ApartBenchModel", name := "guilty", desc := "(II)I" } : Jvm.MethodName)) ∈ lw_all := lw_g (lw_at lw_m9 177 rfl) rfl
theorem q2203 : (Jvm.Cond.selects "ApartBenchModel" ({ cls := "ApartBenchModel", name := "guilty", desc := "(II)I" } : Jvm.MethodName) ({ cls := "ApartBenchModel", name := "guilty", desc := "(II)I" } : Jvm.MethodName)) ∈ lw_all := lw_g (lw_at lw_m9 178 rfl) rfl
theorem q2204 : (Jvm.Cond.code ({ cls := "ApartBenchModel", name := "guilty", desc := "(II)I" } : Jvm.MethodName) prog_20_method_74_code (3 : Nat) (Option.some Jvm.ClassFile.FieldType.int)) ∈ lw_all := lw_g (lw_at lw_m9 179 rfl) rfl
theorem q2206 : (Jvm.Cond.instanceMethod ({ cls := "ApartBenchModel", name := "news", desc := "(II)I" } : Jvm.MethodName)) ∈ lw_all := lw_g (lw_at lw_m9 181 rfl) rfl
theorem q2207 : (Jvm.Cond.selects "ApartBenchModel" ({ cls := "ApartBenchModel", name := "news", desc := "(II)I" } : Jvm.MethodName) ({ cls := "ApartBenchModel", name := "news", desc := "(II)I" } : Jvm.MethodName)) ∈ lw_all := lw_g (lw_at lw_m9 182 rfl) rfl
theorem q2208 : (Jvm.Cond.code ({ cls := "ApartBenchModel", name := "news", desc := "(II)I" } : Jvm.MethodName) prog_20_method_75_code (5 : Nat) (Option.some Jvm.ClassFile.FieldType.int)) ∈ lw_all := lw_g (lw_at lw_m9 183 rfl) rfl
theorem q2210 : (Jvm.Cond.instanceMethod ({ cls := "ApartBenchModel", name := "start", desc := "(II)I" } : Jvm.MethodName)) ∈ lw_all := lw_g (lw_at lw_m9 185 rfl) rfl
theorem q2211 : (Jvm.Cond.selects "ApartBenchModel" ({ cls := "ApartBenchModel", name := "start", desc := "(II)I" } : Jvm.MethodName) ({ cls := "ApartBenchModel", name := "start", desc := "(II)I" } : Jvm.MethodName)) ∈ lw_all := lw_g (lw_at lw_m9 186 rfl) rfl
theorem q2212 : (Jvm.Cond.code ({ cls := "ApartBenchModel", name := "start", desc := "(II)I" } : Jvm.MethodName) prog_20_method_78_code (4 : Nat) (Option.some Jvm.ClassFile.FieldType.int)) ∈ lw_all := lw_g (lw_at lw_m9 187 rfl) rfl
theorem q2213 : (Jvm.Cond.constantLong "ApartBenchModel" (433 : Nat) (60 : Int64)) ∈ lw_all := lw_g (lw_at lw_m9 188 rfl) rfl
theorem q2214 : (Jvm.Cond.methodLink "ApartBenchModel" (435 : Nat) ({ cls := "ApartBenchModel", name := "refuse", desc := "(I)I" } : Jvm.MethodName)) ∈ lw_all := lw_g (lw_at lw_m9 189 rfl) rfl
theorem q2215 : (Jvm.Cond.privateMethod ({ cls := "ApartBenchModel", name := "refuse", desc := "(I)I" } : Jvm.MethodName)) ∈ lw_tbl := lw_at lw_m9 190 rfl
theorem q2216 : (Jvm.Cond.instanceMethod ({ cls := "ApartBenchModel", name := "refuse", desc := "(I)I" } : Jvm.MethodName)) ∈ lw_all := lw_g (lw_at lw_m9 191 rfl) rfl
theorem q2217 : (Jvm.Cond.code ({ cls := "ApartBenchModel", name := "refuse", desc := "(I)I" } : Jvm.MethodName) prog_20_method_76_code (2 : Nat) (Option.some Jvm.ClassFile.FieldType.int)) ∈ lw_all := lw_g (lw_at lw_m9 192 rfl) rfl
theorem q2218 : (Jvm.Cond.methodLink "ApartBenchModel" (438 : Nat) ({ cls := "ApartBenchModel", name := "keep", desc := "()V" } : Jvm.MethodName)) ∈ lw_all := lw_g (lw_at lw_m9 193 rfl) rfl
theorem q2219 : (Jvm.Cond.privateMethod ({ cls := "ApartBenchModel", name := "keep", desc := "()V" } : Jvm.MethodName)) ∈ lw_tbl := lw_at lw_m9 194 rfl
theorem q2220 : (Jvm.Cond.instanceMethod ({ cls := "ApartBenchModel", name := "keep", desc := "()V" } : Jvm.MethodName)) ∈ lw_all := lw_g (lw_at lw_m9 195 rfl) rfl
theorem q2221 : (Jvm.Cond.code ({ cls := "ApartBenchModel", name := "keep", desc := "()V" } : Jvm.MethodName) prog_20_method_77_code (2 : Nat) (Option.none : Option Jvm.ClassFile.FieldType)) ∈ lw_all := lw_g (lw_at lw_m9 196 rfl) rfl
theorem q2222 : (Jvm.Cond.methodLink "ApartBenchModel" (429 : Nat) ({ cls := "ApartBenchModel", name := "pack", desc := "([II)V" } : Jvm.MethodName)) ∈ lw_all := lw_g (lw_at lw_m9 197 rfl) rfl
theorem q2223 : (Jvm.Cond.privateMethod ({ cls := "ApartBenchModel", name := "pack", desc := "([II)V" } : Jvm.MethodName)) ∈ lw_tbl := lw_at lw_m9 198 rfl
theorem q2224 : (Jvm.Cond.instanceMethod ({ cls := "ApartBenchModel", name := "pack", desc := "([II)V" } : Jvm.MethodName)) ∈ lw_all := lw_g (lw_at lw_m9 199 rfl) rfl
theorem q2225 : (Jvm.Cond.code ({ cls := "ApartBenchModel", name := "pack", desc := "([II)V" } : Jvm.MethodName) prog_20_method_42_code (5 : Nat) (Option.none : Option Jvm.ClassFile.FieldType)) ∈ lw_all := lw_g (lw_at lw_m9 200 rfl) rfl
theorem q2227 : (Jvm.Cond.instanceMethod ({ cls := "ApartBenchModel", name := "inn", desc := "(IZ)Z" } : Jvm.MethodName)) ∈ lw_all := lw_g (lw_at lw_m9 202 rfl) rfl
theorem q2228 : (Jvm.Cond.selects "ApartBenchModel" ({ cls := "ApartBenchModel", name := "inn", desc := "(IZ)Z" } : Jvm.MethodName) ({ cls := "ApartBenchModel", name := "inn", desc := "(IZ)Z" } : Jvm.MethodName)) ∈ lw_all := lw_g (lw_at lw_m9 203 rfl) rfl
theorem q2229 : (Jvm.Cond.code ({ cls := "ApartBenchModel", name := "inn", desc := "(IZ)Z" } : Jvm.MethodName) prog_20_method_79_code (3 : Nat) (Option.some Jvm.ClassFile.FieldType.boolean)) ∈ lw_all := lw_g (lw_at lw_m9 204 rfl) rfl
theorem q2231 : (Jvm.Cond.instanceMethod ({ cls := "ApartBenchModel", name := "word", desc := "(III)I" } : Jvm.MethodName)) ∈ lw_all := lw_g (lw_at lw_m9 206 rfl) rfl
theorem q2232 : (Jvm.Cond.selects "ApartBenchModel" ({ cls := "ApartBenchModel", name := "word", desc := "(III)I" } : Jvm.MethodName) ({ cls := "ApartBenchModel", name := "word", desc := "(III)I" } : Jvm.MethodName)) ∈ lw_all := lw_g (lw_at lw_m9 207 rfl) rfl
theorem q2233 : (Jvm.Cond.code ({ cls := "ApartBenchModel", name := "word", desc := "(III)I" } : Jvm.MethodName) prog_20_method_81_code (4 : Nat) (Option.some Jvm.ClassFile.FieldType.int)) ∈ lw_all := lw_g (lw_at lw_m9 208 rfl) rfl
theorem q2234 : (Jvm.Cond.constantLong "ApartBenchModel" (441 : Nat) (99 : Int64)) ∈ lw_all := lw_g (lw_at lw_m9 209 rfl) rfl
theorem q2235 : (Jvm.Cond.methodLink "ApartBenchModel" (443 : Nat) ({ cls := "ApartBenchModel", name := "putRow", desc := "([IIIII)V" } : Jvm.MethodName)) ∈ lw_all := lw_g (lw_at lw_m9 210 rfl) rfl
theorem q2236 : (Jvm.Cond.static ({ cls := "ApartBenchModel", name := "putRow", desc := "([IIIII)V" } : Jvm.MethodName)) ∈ lw_all := lw_g (lw_at lw_m9 211 rfl) rfl
theorem q2237 : (Jvm.Cond.code ({ cls := "ApartBenchModel", name := "putRow", desc := "([IIIII)V" } : Jvm.MethodName) prog_20_method_80_code (5 : Nat) (Option.none : Option Jvm.ClassFile.FieldType)) ∈ lw_all := lw_g (lw_at lw_m9 212 rfl) rfl
theorem q2239 : (Jvm.Cond.instanceMethod ({ cls := "ApartBenchModel", name := "feast", desc := "(III)I" } : Jvm.MethodName)) ∈ lw_all := lw_g (lw_at lw_m9 214 rfl) rfl
theorem q2240 : (Jvm.Cond.selects "ApartBenchModel" ({ cls := "ApartBenchModel", name := "feast", desc := "(III)I" } : Jvm.MethodName) ({ cls := "ApartBenchModel", name := "feast", desc := "(III)I" } : Jvm.MethodName)) ∈ lw_all := lw_g (lw_at lw_m9 215 rfl) rfl
theorem q2241 : (Jvm.Cond.code ({ cls := "ApartBenchModel", name := "feast", desc := "(III)I" } : Jvm.MethodName) prog_20_method_82_code (4 : Nat) (Option.some Jvm.ClassFile.FieldType.int)) ∈ lw_all := lw_g (lw_at lw_m9 216 rfl) rfl
theorem q2243 : (Jvm.Cond.instanceMethod ({ cls := "ApartBenchModel", name := "flood", desc := "(III)I" } : Jvm.MethodName)) ∈ lw_all := lw_g (lw_at lw_m9 218 rfl) rfl
theorem q2244 : (Jvm.Cond.selects "ApartBenchModel" ({ cls := "ApartBenchModel", name := "flood", desc := "(III)I" } : Jvm.MethodName) ({ cls := "ApartBenchModel", name := "flood", desc := "(III)I" } : Jvm.MethodName)) ∈ lw_all := lw_g (lw_at lw_m9 219 rfl) rfl
theorem q2245 : (Jvm.Cond.code ({ cls := "ApartBenchModel", name := "flood", desc := "(III)I" } : Jvm.MethodName) prog_20_method_83_code (4 : Nat) (Option.some Jvm.ClassFile.FieldType.int)) ∈ lw_all := lw_g (lw_at lw_m9 220 rfl) rfl
theorem q2246 : (Jvm.Cond.constantLong "ApartBenchModel" (447 : Nat) (20 : Int64)) ∈ lw_all := lw_g (lw_at lw_m9 221 rfl) rfl
theorem q2248 : (Jvm.Cond.instanceMethod ({ cls := "ApartBenchModel", name := "undo", desc := "()I" } : Jvm.MethodName)) ∈ lw_all := lw_g (lw_at lw_m9 223 rfl) rfl
theorem q2249 : (Jvm.Cond.selects "ApartBenchModel" ({ cls := "ApartBenchModel", name := "undo", desc := "()I" } : Jvm.MethodName) ({ cls := "ApartBenchModel", name := "undo", desc := "()I" } : Jvm.MethodName)) ∈ lw_all := lw_g (lw_at lw_m9 224 rfl) rfl
theorem q2250 : (Jvm.Cond.code ({ cls := "ApartBenchModel", name := "undo", desc := "()I" } : Jvm.MethodName) prog_20_method_84_code (1 : Nat) (Option.some Jvm.ClassFile.FieldType.int)) ∈ lw_all := lw_g (lw_at lw_m9 225 rfl) rfl
theorem q2251 : (Jvm.Cond.methodLink "ApartBenchModel" (449 : Nat) ({ cls := "ApartBenchModel", name := "unpack", desc := "([II)V" } : Jvm.MethodName)) ∈ lw_all := lw_g (lw_at lw_m9 226 rfl) rfl
theorem q2252 : (Jvm.Cond.privateMethod ({ cls := "ApartBenchModel", name := "unpack", desc := "([II)V" } : Jvm.MethodName)) ∈ lw_tbl := lw_at lw_m9 227 rfl
theorem q2253 : (Jvm.Cond.instanceMethod ({ cls := "ApartBenchModel", name := "unpack", desc := "([II)V" } : Jvm.MethodName)) ∈ lw_all := lw_g (lw_at lw_m9 228 rfl) rfl
theorem q2254 : (Jvm.Cond.code ({ cls := "ApartBenchModel", name := "unpack", desc := "([II)V" } : Jvm.MethodName) prog_20_method_43_code (5 : Nat) (Option.none : Option Jvm.ClassFile.FieldType)) ∈ lw_all := lw_g (lw_at lw_m9 229 rfl) rfl
theorem q2256 : (Jvm.Cond.instanceMethod ({ cls := "ApartBenchModel", name := "burn", desc := "(I)I" } : Jvm.MethodName)) ∈ lw_all := lw_g (lw_at lw_m9 231 rfl) rfl
theorem q2257 : (Jvm.Cond.selects "ApartBenchModel" ({ cls := "ApartBenchModel", name := "burn", desc := "(I)I" } : Jvm.MethodName) ({ cls := "ApartBenchModel", name := "burn", desc := "(I)I" } : Jvm.MethodName)) ∈ lw_all := lw_g (lw_at lw_m9 232 rfl) rfl
theorem q2258 : (Jvm.Cond.code ({ cls := "ApartBenchModel", name := "burn", desc := "(I)I" } : Jvm.MethodName) prog_20_method_85_code (6 : Nat) (Option.some Jvm.ClassFile.FieldType.int)) ∈ lw_all := lw_g (lw_at lw_m9 233 rfl) rfl
theorem q2260 : (Jvm.Cond.instanceMethod ({ cls := "ApartBenchModel", name := "when", desc := "(II)I" } : Jvm.MethodName)) ∈ lw_all := lw_g (lw_at lw_m9 235 rfl) rfl
theorem q2261 : (Jvm.Cond.selects "ApartBenchModel" ({ cls := "ApartBenchModel", name := "when", desc := "(II)I" } : Jvm.MethodName) ({ cls := "ApartBenchModel", name := "when", desc := "(II)I" } : Jvm.MethodName)) ∈ lw_all := lw_g (lw_at lw_m9 236 rfl) rfl
theorem q2262 : (Jvm.Cond.code ({ cls := "ApartBenchModel", name := "when", desc := "(II)I" } : Jvm.MethodName) prog_20_method_86_code (8 : Nat) (Option.some Jvm.ClassFile.FieldType.int)) ∈ lw_all := lw_g (lw_at lw_m9 237 rfl) rfl
theorem q2264 : (Jvm.Cond.instanceMethod ({ cls := "ApartBenchModel", name := "round", desc := "(I)I" } : Jvm.MethodName)) ∈ lw_all := lw_g (lw_at lw_m9 239 rfl) rfl
theorem q2265 : (Jvm.Cond.selects "ApartBenchModel" ({ cls := "ApartBenchModel", name := "round", desc := "(I)I" } : Jvm.MethodName) ({ cls := "ApartBenchModel", name := "round", desc := "(I)I" } : Jvm.MethodName)) ∈ lw_all := lw_g (lw_at lw_m10 0 rfl) rfl
theorem q2266 : (Jvm.Cond.code ({ cls := "ApartBenchModel", name := "round", desc := "(I)I" } : Jvm.MethodName) prog_20_method_87_code (3 : Nat) (Option.some Jvm.ClassFile.FieldType.int)) ∈ lw_all := lw_g (lw_at lw_m10 1 rfl) rfl
theorem q2268 : (Jvm.Cond.instanceMethod ({ cls := "ApartBenchModel", name := "free", desc := "(II)I" } : Jvm.MethodName)) ∈ lw_all := lw_g (lw_at lw_m10 3 rfl) rfl
theorem q2269 : (Jvm.Cond.selects "ApartBenchModel" ({ cls := "ApartBenchModel", name := "free", desc := "(II)I" } : Jvm.MethodName) ({ cls := "ApartBenchModel", name := "free", desc := "(II)I" } : Jvm.MethodName)) ∈ lw_all := lw_g (lw_at lw_m10 4 rfl) rfl
theorem q2270 : (Jvm.Cond.code ({ cls := "ApartBenchModel", name := "free", desc := "(II)I" } : Jvm.MethodName) prog_20_method_88_code (5 : Nat) (Option.some Jvm.ClassFile.FieldType.int)) ∈ lw_all := lw_g (lw_at lw_m10 5 rfl) rfl
theorem q2272 : (Jvm.Cond.instanceMethod ({ cls := "ApartBenchModel", name := "mercy", desc := "(I)I" } : Jvm.MethodName)) ∈ lw_all := lw_g (lw_at lw_m10 7 rfl) rfl
theorem q2273 : (Jvm.Cond.selects "ApartBenchModel" ({ cls := "ApartBenchModel", name := "mercy", desc := "(I)I" } : Jvm.MethodName) ({ cls := "ApartBenchModel", name := "mercy", desc := "(I)I" } : Jvm.MethodName)) ∈ lw_all := lw_g (lw_at lw_m10 8 rfl) rfl
theorem q2274 : (Jvm.Cond.code ({ cls := "ApartBenchModel", name := "mercy", desc := "(I)I" } : Jvm.MethodName) prog_20_method_89_code (4 : Nat) (Option.some Jvm.ClassFile.FieldType.int)) ∈ lw_all := lw_g (lw_at lw_m10 9 rfl) rfl
theorem q2275 : (Jvm.Cond.methodLink "ApartBenchModel" (452 : Nat) ({ cls := "ApartBenchModel", name := "bitsOf", desc := "(I)I" } : Jvm.MethodName)) ∈ lw_all := lw_g (lw_at lw_m10 10 rfl) rfl
theorem q2276 : (Jvm.Cond.static ({ cls := "ApartBenchModel", name := "bitsOf", desc := "(I)I" } : Jvm.MethodName)) ∈ lw_all := lw_g (lw_at lw_m10 11 rfl) rfl
theorem q2277 : (Jvm.Cond.code ({ cls := "ApartBenchModel", name := "bitsOf", desc := "(I)I" } : Jvm.MethodName) prog_20_method_65_code (3 : Nat) (Option.some Jvm.ClassFile.FieldType.int)) ∈ lw_all := lw_g (lw_at lw_m10 12 rfl) rfl
theorem q2279 : (Jvm.Cond.instanceMethod ({ cls := "ApartBenchModel", name := "deaf", desc := "(I)I" } : Jvm.MethodName)) ∈ lw_all := lw_g (lw_at lw_m10 14 rfl) rfl
theorem q2280 : (Jvm.Cond.selects "ApartBenchModel" ({ cls := "ApartBenchModel", name := "deaf", desc := "(I)I" } : Jvm.MethodName) ({ cls := "ApartBenchModel", name := "deaf", desc := "(I)I" } : Jvm.MethodName)) ∈ lw_all := lw_g (lw_at lw_m10 15 rfl) rfl
theorem q2281 : (Jvm.Cond.code ({ cls := "ApartBenchModel", name := "deaf", desc := "(I)I" } : Jvm.MethodName) prog_20_method_90_code (2 : Nat) (Option.some Jvm.ClassFile.FieldType.int)) ∈ lw_all := lw_g (lw_at lw_m10 16 rfl) rfl
theorem q2283 : (Jvm.Cond.instanceMethod ({ cls := "ApartBenchModel", name := "soonest", desc := "(I)I" } : Jvm.MethodName)) ∈ lw_all := lw_g (lw_at lw_m10 18 rfl) rfl
theorem q2284 : (Jvm.Cond.selects "ApartBenchModel" ({ cls := "ApartBenchModel", name := "soonest", desc := "(I)I" } : Jvm.MethodName) ({ cls := "ApartBenchModel", name := "soonest", desc := "(I)I" } : Jvm.MethodName)) ∈ lw_all := lw_g (lw_at lw_m10 19 rfl) rfl
theorem q2285 : (Jvm.Cond.code ({ cls := "ApartBenchModel", name := "soonest", desc := "(I)I" } : Jvm.MethodName) prog_20_method_91_code (5 : Nat) (Option.some Jvm.ClassFile.FieldType.int)) ∈ lw_all := lw_g (lw_at lw_m10 20 rfl) rfl
theorem q2287 : (Jvm.Cond.instanceMethod ({ cls := "ApartBenchModel", name := "see", desc := "(IIZ)I" } : Jvm.MethodName)) ∈ lw_all := lw_g (lw_at lw_m10 22 rfl) rfl
theorem q2288 : (Jvm.Cond.selects "ApartBenchModel" ({ cls := "ApartBenchModel", name := "see", desc := "(IIZ)I" } : Jvm.MethodName) ({ cls := "ApartBenchModel", name := "see", desc := "(IIZ)I" } : Jvm.MethodName)) ∈ lw_all := lw_g (lw_at lw_m10 23 rfl) rfl
theorem q2289 : (Jvm.Cond.code ({ cls := "ApartBenchModel", name := "see", desc := "(IIZ)I" } : Jvm.MethodName) prog_20_method_92_code (4 : Nat) (Option.some Jvm.ClassFile.FieldType.int)) ∈ lw_all := lw_g (lw_at lw_m10 24 rfl) rfl
theorem q2291 : (Jvm.Cond.instanceMethod ({ cls := "ApartBenchModel", name := "forget", desc := "()I" } : Jvm.MethodName)) ∈ lw_all := lw_g (lw_at lw_m10 26 rfl) rfl
theorem q2292 : (Jvm.Cond.selects "ApartBenchModel" ({ cls := "ApartBenchModel", name := "forget", desc := "()I" } : Jvm.MethodName) ({ cls := "ApartBenchModel", name := "forget", desc := "()I" } : Jvm.MethodName)) ∈ lw_all := lw_g (lw_at lw_m10 27 rfl) rfl
theorem q2293 : (Jvm.Cond.code ({ cls := "ApartBenchModel", name := "forget", desc := "()I" } : Jvm.MethodName) prog_20_method_93_code (1 : Nat) (Option.some Jvm.ClassFile.FieldType.int)) ∈ lw_all := lw_g (lw_at lw_m10 28 rfl) rfl
theorem q2295 : (Jvm.Cond.instanceMethod ({ cls := "ApartBenchModel", name := "sent", desc := "(II)I" } : Jvm.MethodName)) ∈ lw_all := lw_g (lw_at lw_m10 30 rfl) rfl
theorem q2296 : (Jvm.Cond.selects "ApartBenchModel" ({ cls := "ApartBenchModel", name := "sent", desc := "(II)I" } : Jvm.MethodName) ({ cls := "ApartBenchModel", name := "sent", desc := "(II)I" } : Jvm.MethodName)) ∈ lw_all := lw_g (lw_at lw_m10 31 rfl) rfl
theorem q2297 : (Jvm.Cond.code ({ cls := "ApartBenchModel", name := "sent", desc := "(II)I" } : Jvm.MethodName) prog_20_method_95_code (6 : Nat) (Option.some Jvm.ClassFile.FieldType.int)) ∈ lw_all := lw_g (lw_at lw_m10 32 rfl) rfl
theorem q2298 : (Jvm.Cond.constantLong "ApartBenchModel" (455 : Nat) (2 : Int64)) ∈ lw_all := lw_g (lw_at lw_m10 33 rfl) rfl
theorem q2299 : (Jvm.Cond.methodLink "ApartBenchModel" (457 : Nat) ({ cls := "ApartBenchModel", name := "isAsSeen", desc := "()Z" } : Jvm.MethodName)) ∈ lw_all := lw_g (lw_at lw_m10 34 rfl) rfl
theorem q2300 : (Jvm.Cond.privateMethod ({ cls := "ApartBenchModel", name := "isAsSeen", desc := "()Z" } : Jvm.MethodName)) ∈ lw_tbl := lw_at lw_m10 35 rfl
theorem q2301 : (Jvm.Cond.instanceMethod ({ cls := "ApartBenchModel", name := "isAsSeen", desc := "()Z" } : Jvm.MethodName)) ∈ lw_all := lw_g (lw_at lw_m10 36 rfl) rfl
theorem q2302 : (Jvm.Cond.code ({ cls := "ApartBenchModel", name := "isAsSeen", desc := "()Z" } : Jvm.MethodName) prog_20_method_94_code (2 : Nat) (Option.some Jvm.ClassFile.FieldType.boolean)) ∈ lw_all := lw_g (lw_at lw_m10 37 rfl) rfl
theorem q2304 : (Jvm.Cond.instanceMethod ({ cls := "ApartBenchModel", name := "game", desc := "(II)I" } : Jvm.MethodName)) ∈ lw_all := lw_g (lw_at lw_m10 39 rfl) rfl
theorem q2305 : (Jvm.Cond.selects "ApartBenchModel" ({ cls := "ApartBenchModel", name := "game", desc := "(II)I" } : Jvm.MethodName) ({ cls := "ApartBenchModel", name := "game", desc := "(II)I" } : Jvm.MethodName)) ∈ lw_all := lw_g (lw_at lw_m10 40 rfl) rfl
theorem q2306 : (Jvm.Cond.code ({ cls := "ApartBenchModel", name := "game", desc := "(II)I" } : Jvm.MethodName) prog_20_method_97_code (10 : Nat) (Option.some Jvm.ClassFile.FieldType.int)) ∈ lw_all := lw_g (lw_at lw_m10 41 rfl) rfl
theorem q2307 : (Jvm.Cond.methodLink "ApartBenchModel" (461 : Nat) ({ cls := "ApartBenchModel", name := "isGuiltyBy", desc := "(III)Z" } : Jvm.MethodName)) ∈ lw_all := lw_g (lw_at lw_m10 42 rfl) rfl
theorem q2308 : (Jvm.Cond.privateMethod ({ cls := "ApartBenchModel", name := "isGuiltyBy", desc := "(III)Z" } : Jvm.MethodName)) ∈ lw_tbl := lw_at lw_m10 43 rfl
theorem q2309 : (Jvm.Cond.instanceMethod ({ cls := "ApartBenchModel", name := "isGuiltyBy", desc := "(III)Z" } : Jvm.MethodName)) ∈ lw_all := lw_g (lw_at lw_m10 44 rfl) rfl
theorem q2310 : (Jvm.Cond.code ({ cls := "ApartBenchModel", name := "isGuiltyBy", desc := "(III)Z" } : Jvm.MethodName) prog_20_method_96_code (5 : Nat) (Option.some Jvm.ClassFile.FieldType.boolean)) ∈ lw_all := lw_g (lw_at lw_m10 45 rfl) rfl
theorem q2312 : (Jvm.Cond.instanceMethod ({ cls := "ApartBenchModel", name := "season", desc := "(III)I" } : Jvm.MethodName)) ∈ lw_all := lw_g (lw_at lw_m10 47 rfl) rfl
theorem q2313 : (Jvm.Cond.selects "ApartBenchModel" ({ cls := "ApartBenchModel", name := "season", desc := "(III)I" } : Jvm.MethodName) ({ cls := "ApartBenchModel", name := "season", desc := "(III)I" } : Jvm.MethodName)) ∈ lw_all := lw_g (lw_at lw_m10 48 rfl) rfl
theorem q2314 : (Jvm.Cond.code ({ cls := "ApartBenchModel", name := "season", desc := "(III)I" } : Jvm.MethodName) prog_20_method_99_code (12 : Nat) (Option.some Jvm.ClassFile.FieldType.int)) ∈ lw_all := lw_g (lw_at lw_m10 49 rfl) rfl
theorem q2315 : (Jvm.Cond.constantLong "ApartBenchModel" (468 : Nat) (40 : Int64)) ∈ lw_all := lw_g (lw_at lw_m10 50 rfl) rfl
theorem q2316 : (Jvm.Cond.methodLink "ApartBenchModel" (470 : Nat) ({ cls := "ApartBenchModel", name := "drawOf", desc := "(I)I" } : Jvm.MethodName)) ∈ lw_all := lw_g (lw_at lw_m10 51 rfl) rfl
theorem q2317 : (Jvm.Cond.privateMethod ({ cls := "ApartBenchModel", name := "drawOf", desc := "(I)I" } : Jvm.MethodName)) ∈ lw_tbl := lw_at lw_m10 52 rfl
theorem q2318 : (Jvm.Cond.instanceMethod ({ cls := "ApartBenchModel", name := "drawOf", desc := "(I)I" } : Jvm.MethodName)) ∈ lw_all := lw_g (lw_at lw_m10 53 rfl) rfl
theorem q2319 : (Jvm.Cond.code ({ cls := "ApartBenchModel", name := "drawOf", desc := "(I)I" } : Jvm.MethodName) prog_20_method_98_code (2 : Nat) (Option.some Jvm.ClassFile.FieldType.int)) ∈ lw_all := lw_g (lw_at lw_m10 54 rfl) rfl
theorem q2320 : (Jvm.Cond.constant "ApartBenchModel" (467 : Nat) (1103515245 : Int32)) ∈ lw_all := lw_g (lw_at lw_m10 55 rfl) rfl
theorem q2322 : (Jvm.Cond.instanceMethod ({ cls := "ApartBenchModel", name := "image", desc := "()V" } : Jvm.MethodName)) ∈ lw_all := lw_g (lw_at lw_m10 57 rfl) rfl
theorem q2323 : (Jvm.Cond.selects "ApartBenchModel" ({ cls := "ApartBenchModel", name := "image", desc := "()V" } : Jvm.MethodName) ({ cls := "ApartBenchModel", name := "image", desc := "()V" } : Jvm.MethodName)) ∈ lw_all := lw_g (lw_at lw_m10 58 rfl) rfl
theorem q2324 : (Jvm.Cond.code ({ cls := "ApartBenchModel", name := "image", desc := "()V" } : Jvm.MethodName) prog_20_method_101_code (1 : Nat) (Option.none : Option Jvm.ClassFile.FieldType)) ∈ lw_all := lw_g (lw_at lw_m10 59 rfl) rfl
theorem q2325 : (Jvm.Cond.methodLink "ApartBenchModel" (479 : Nat) ({ cls := "ApartBenchModel", name := "be", desc := "([I[I)V" } : Jvm.MethodName)) ∈ lw_all := lw_g (lw_at lw_m10 60 rfl) rfl
theorem q2326 : (Jvm.Cond.static ({ cls := "ApartBenchModel", name := "be", desc := "([I[I)V" } : Jvm.MethodName)) ∈ lw_all := lw_g (lw_at lw_m10 61 rfl) rfl
theorem q2327 : (Jvm.Cond.code ({ cls := "ApartBenchModel", name := "be", desc := "([I[I)V" } : Jvm.MethodName) prog_20_method_100_code (3 : Nat) (Option.none : Option Jvm.ClassFile.FieldType)) ∈ lw_all := lw_g (lw_at lw_m10 62 rfl) rfl
theorem q2329 : (Jvm.Cond.instanceMethod ({ cls := "ApartBenchModel", name := "restore", desc := "()Z" } : Jvm.MethodName)) ∈ lw_all := lw_g (lw_at lw_m10 64 rfl) rfl
theorem q2330 : (Jvm.Cond.selects "ApartBenchModel" ({ cls := "ApartBenchModel", name := "restore", desc := "()Z" } : Jvm.MethodName) ({ cls := "ApartBenchModel", name := "restore", desc := "()Z" } : Jvm.MethodName)) ∈ lw_all := lw_g (lw_at lw_m10 65 rfl) rfl
theorem q2331 : (Jvm.Cond.code ({ cls := "ApartBenchModel", name := "restore", desc := "()Z" } : Jvm.MethodName) prog_20_method_102_code (1 : Nat) (Option.some Jvm.ClassFile.FieldType.boolean)) ∈ lw_all := lw_g (lw_at lw_m10 66 rfl) rfl
theorem q2358 : (Jvm.Cond.castable "ApartBenchModel" "java/lang/Object") ∈ lw_tbl := lw_at lw_m10 93 rfl
theorem in_X8 : ∀ w ∈ wsX80, w ∈ lw_all := lw_in wsX80 [1791, 1793, 1795, 1797, 1799, 1801, 1803, 1805, 1807, 1809, 1811, 1813, 1815, 1817, 1819, 1821, 1823, 1825, 1827, 1829, 1831, 1833, 1835, 1837, 1839, 1841, 1843, 1845, 1847, 1849, 1851, 1853, 1855, 1857, 1859, 1861, 1863, 1865, 1867, 1869, 1871, 1873, 1875, 1877, 1879, 1881, 1883, 1885, 1887, 1889, 1891, 1893, 1895, 1897, 1899, 1901, 1903, 1905, 1907, 1909, 1911, 1913, 1915] (by decide +kernel) (by decide +kernel)

