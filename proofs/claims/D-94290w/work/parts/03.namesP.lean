/-! PailRow -/
set_option maxRecDepth 100000
def RX1 : String := "PailRow"
def TX1 : u_T := fun k => match k with
  | 0 => ("PailRow", "tape", "[B", true)
  | 1 => ("PailRow", "length", "I", false)
  | 2 => ("PailRow", "size", "I", false)
  | 3 => ("PailRow", "today", "I", false)
  | 4 => ("PailRow", "broken", "LPailRow$Fault;", true)
  | 5 => ("PailRow", "lines", "[Ljava/lang/String;", true)
  | 6 => ("PailRow", "winds", "[Ljava/lang/String;", true)
  | 7 => ("PailRow", "things", "[Ljava/lang/String;", true)
  | 8 => ("PailRow", "words", "[Ljava/lang/String;", true)
  | 9 => ("PailRow", "now", "LPailRow$State;", true)
  | 10 => ("PailRow", "yardReader", "LPailRow$YardReader;", true)
  | 11 => ("PailRow", "planReader", "LPailRow$PlanReader;", true)
  | 12 => ("PailRow", "fault", "I", false)
  | 13 => ("PailRow", "row", "LPailRow$Row;", true)
  | 14 => ("PailRow", "nightRow", "LPailRow$Row;", true)
  | 15 => ("PailRow", "runners", "LPailRow$Runners;", true)
  | 16 => ("PailRow", "nightRunners", "LPailRow$Runners;", true)
  | 17 => ("PailRow", "asked", "[I", true)
  | 18 => ("PailRow", "askedMany", "I", false)
  | 19 => ("PailRow", "hasRow", "Z", false)
  | 20 => ("PailRow", "kept", "[I", true)
  | 21 => ("PailRow", "keptDone", "[I", true)
  | 22 => ("PailRow", "keptMany", "I", false)
  | 23 => ("PailRow", "order", "[I", true)
  | 24 => ("PailRow", "bestOrder", "[I", true)
  | 25 => ("PailRow", "bestMany", "I", false)
  | 26 => ("PailRow", "bestPeriod", "I", false)
  | 27 => ("PailRow", "inTurn", "[I", true)
  | 28 => ("PailRow", "beside", "[I", true)
  | 29 => ("PailRow", "besideMany", "I", false)
  | 30 => ("PailRow", "powers", "[I", true)
  | 31 => ("PailRow", "hooked", "[I", true)
  | 32 => ("PailRow", "bestHooks", "[I", true)
  | 33 => ("PailRow", "hookMany", "I", false)
  | 34 => ("PailRow", "bestWay", "I", false)
  | 35 => ("PailRow", "barn", "LPailRow$Barn;", true)
  | 36 => ("PailRow", "tried", "LPailRow$Barn;", true)
  | 37 => ("PailRow", "seen", "[LPailRow$Barn;", true)
  | 38 => ("PailRow", "hasFire", "Z", false)
  | 39 => ("PailRow", "outAt", "I", false)
  | 40 => ("PailRow", "steps", "[LPailRow$Barn;", true)
  | 41 => ("PailRow", "aims", "[I", true)
  | 42 => ("PailRow", "bestAims", "[I", true)
  | 43 => ("PailRow", "aimMany", "I", false)
  | 44 => ("PailRow", "leastLost", "I", false)
  | 45 => ("PailRow", "dark", "LPailRow$Barn;", true)
  | 46 => ("PailRow", "threw", "[I", true)
  | 47 => ("PailRow", "lost", "[I", true)
  | 48 => ("PailRow", "burning", "[I", true)
  | 49 => ("PailRow", "wells", "[I", true)
  | 50 => ("PailRow", "sentenceReader", "LPailRow$SentenceReader;", true)
  | _ => ("PailRow", "images", "[LPailRow$State;", true)
def tyX1 : Nat → FieldType := fun k => match k with
  | 0 => .array .byte
  | 1 => .int
  | 2 => .int
  | 3 => .int
  | 4 => .object "PailRow$Fault"
  | 5 => .array (.object "java/lang/String")
  | 6 => .array (.object "java/lang/String")
  | 7 => .array (.object "java/lang/String")
  | 8 => .array (.object "java/lang/String")
  | 9 => .object "PailRow$State"
  | 10 => .object "PailRow$YardReader"
  | 11 => .object "PailRow$PlanReader"
  | 12 => .int
  | 13 => .object "PailRow$Row"
  | 14 => .object "PailRow$Row"
  | 15 => .object "PailRow$Runners"
  | 16 => .object "PailRow$Runners"
  | 17 => .array .int
  | 18 => .int
  | 19 => .boolean
  | 20 => .array .int
  | 21 => .array .int
  | 22 => .int
  | 23 => .array .int
  | 24 => .array .int
  | 25 => .int
  | 26 => .int
  | 27 => .array .int
  | 28 => .array .int
  | 29 => .int
  | 30 => .array .int
  | 31 => .array .int
  | 32 => .array .int
  | 33 => .int
  | 34 => .int
  | 35 => .object "PailRow$Barn"
  | 36 => .object "PailRow$Barn"
  | 37 => .array (.object "PailRow$Barn")
  | 38 => .boolean
  | 39 => .int
  | 40 => .array (.object "PailRow$Barn")
  | 41 => .array .int
  | 42 => .array .int
  | 43 => .int
  | 44 => .int
  | 45 => .object "PailRow$Barn"
  | 46 => .array .int
  | 47 => .array .int
  | 48 => .array .int
  | 49 => .array .int
  | 50 => .object "PailRow$SentenceReader"
  | _ => .array (.object "PailRow$State")
abbrev wsX10 : List Cond := u_ws RX1 TX1 52
set_option maxRecDepth 100000 in
theorem nmX1 : ∀ a, a < 52 → ∀ b, b < 52 → a ≠ b → (TX1 a).2.1 ≠ (TX1 b).2.1 := by decide +kernel
set_option maxRecDepth 100000 in
theorem tyX1_ok : ∀ k, k < 52 → parseFieldDescriptor (TX1 k).2.2.1 = some (tyX1 k) := by decide +kernel
abbrev cX1_init : ByteArray := prog_1_method_1_code
def yX1_init : MethodName := ⟨RX1, "<init>", "()V"⟩
def dkwX1_init_22 : List UInt8 := [181, 0, 206, 42, 5, 189, 0, 93, 181, 0, 210, 177]
abbrev dktX1_init_22 : List UInt8 := dkwX1_init_22 ++ []
def dkwX1_init_21 : List UInt8 := [16, 60, 188, 10, 181, 0, 197, 42, 16, 60, 188, 10, 181, 0, 200, 42, 187, 0, 203, 89, 42, 183, 0, 205]
abbrev dktX1_init_21 : List UInt8 := dkwX1_init_21 ++ dktX1_init_22
def dkwX1_init_20 : List UInt8 := [183, 0, 168, 181, 0, 189, 42, 16, 60, 188, 10, 181, 0, 192, 42, 16, 60, 188, 10, 181, 0, 195, 42]
abbrev dktX1_init_20 : List UInt8 := dkwX1_init_20 ++ dktX1_init_21
def dkwX1_init_19 : List UInt8 := [181, 0, 180, 42, 6, 188, 10, 181, 0, 183, 42, 6, 188, 10, 181, 0, 186, 42, 187, 0, 166, 89]
abbrev dktX1_init_19 : List UInt8 := dkwX1_init_19 ++ dktX1_init_20
def dkwX1_init_18 : List UInt8 := [183, 0, 168, 83, 89, 5, 187, 0, 166, 89, 183, 0, 168, 83, 89, 6, 187, 0, 166, 89, 183, 0, 168, 83]
abbrev dktX1_init_18 : List UInt8 := dkwX1_init_18 ++ dktX1_init_19
def dkwX1_init_17 : List UInt8 := [181, 0, 176, 42, 7, 189, 0, 166, 89, 3, 187, 0, 166, 89, 183, 0, 168, 83, 89, 4, 187, 0, 166, 89]
abbrev dktX1_init_17 : List UInt8 := dkwX1_init_17 ++ dktX1_init_18
def dkwX1_init_16 : List UInt8 := [183, 0, 168, 181, 0, 169, 42, 187, 0, 166, 89, 183, 0, 168, 181, 0, 173, 42, 16, 21, 189, 0, 166]
abbrev dktX1_init_16 : List UInt8 := dkwX1_init_16 ++ dktX1_init_17
def dkwX1_init_15 : List UInt8 := [181, 0, 157, 42, 16, 6, 188, 10, 181, 0, 160, 42, 16, 6, 188, 10, 181, 0, 163, 42, 187, 0, 166, 89]
abbrev dktX1_init_15 : List UInt8 := dkwX1_init_15 ++ dktX1_init_16
def dkwX1_init_14 : List UInt8 := [181, 0, 148, 42, 16, 12, 188, 10, 181, 0, 151, 42, 16, 12, 188, 10, 181, 0, 154, 42, 16, 12, 188, 10]
abbrev dktX1_init_14 : List UInt8 := dkwX1_init_14 ++ dktX1_init_15
def dkwX1_init_13 : List UInt8 := [181, 0, 139, 42, 16, 12, 188, 10, 181, 0, 142, 42, 16, 7, 188, 10, 181, 0, 145, 42, 16, 7, 188, 10]
abbrev dktX1_init_13 : List UInt8 := dkwX1_init_13 ++ dktX1_init_14
def dkwX1_init_12 : List UInt8 := [187, 0, 125, 89, 183, 0, 127, 181, 0, 132, 42, 16, 12, 188, 10, 181, 0, 135, 42, 16, 6, 188, 10]
abbrev dktX1_init_12 : List UInt8 := dkwX1_init_12 ++ dktX1_init_13
def dkwX1_init_11 : List UInt8 := [187, 0, 116, 89, 183, 0, 118, 181, 0, 122, 42, 187, 0, 125, 89, 183, 0, 127, 181, 0, 128, 42]
abbrev dktX1_init_11 : List UInt8 := dkwX1_init_11 ++ dktX1_init_12
def dkwX1_init_10 : List UInt8 := [187, 0, 109, 89, 42, 183, 0, 111, 181, 0, 112, 42, 187, 0, 116, 89, 183, 0, 118, 181, 0, 119, 42]
abbrev dktX1_init_10 : List UInt8 := dkwX1_init_10 ++ dktX1_init_11
def dkwX1_init_9 : List UInt8 := [187, 0, 93, 89, 183, 0, 95, 181, 0, 96, 42, 187, 0, 100, 89, 42, 183, 0, 102, 181, 0, 105, 42]
abbrev dktX1_init_9 : List UInt8 := dkwX1_init_9 ++ dktX1_init_10
def dkwX1_init_8 : List UInt8 := [83, 89, 16, 7, 18, 84, 83, 89, 16, 8, 18, 86, 83, 89, 16, 9, 18, 88, 83, 181, 0, 90, 42]
abbrev dktX1_init_8 : List UInt8 := dkwX1_init_8 ++ dktX1_init_9
def dkwX1_init_7 : List UInt8 := [5, 18, 74, 83, 89, 6, 18, 76, 83, 89, 7, 18, 78, 83, 89, 8, 18, 80, 83, 89, 16, 6, 18, 82]
abbrev dktX1_init_7 : List UInt8 := dkwX1_init_7 ++ dktX1_init_8
def dkwX1_init_6 : List UInt8 := [7, 18, 65, 83, 181, 0, 67, 42, 16, 10, 189, 0, 20, 89, 3, 18, 70, 83, 89, 4, 18, 72, 83, 89]
abbrev dktX1_init_6 : List UInt8 := dkwX1_init_6 ++ dktX1_init_7
def dkwX1_init_5 : List UInt8 := [189, 0, 20, 89, 3, 18, 57, 83, 89, 4, 18, 59, 83, 89, 5, 18, 61, 83, 89, 6, 18, 63, 83, 89]
abbrev dktX1_init_5 : List UInt8 := dkwX1_init_5 ++ dktX1_init_6
def dkwX1_init_4 : List UInt8 := [18, 46, 83, 89, 4, 18, 48, 83, 89, 5, 18, 50, 83, 89, 6, 18, 52, 83, 181, 0, 54, 42, 8]
abbrev dktX1_init_4 : List UInt8 := dkwX1_init_4 ++ dktX1_init_5
def dkwX1_init_3 : List UInt8 := [83, 89, 16, 8, 18, 38, 83, 89, 16, 9, 18, 40, 83, 181, 0, 42, 42, 7, 189, 0, 20, 89, 3]
abbrev dktX1_init_3 : List UInt8 := dkwX1_init_3 ++ dktX1_init_4
def dkwX1_init_2 : List UInt8 := [18, 28, 83, 89, 7, 18, 30, 83, 89, 8, 18, 32, 83, 89, 16, 6, 18, 34, 83, 89, 16, 7, 18, 36]
abbrev dktX1_init_2 : List UInt8 := dkwX1_init_2 ++ dktX1_init_3
def dkwX1_init_1 : List UInt8 := [42, 16, 10, 189, 0, 20, 89, 3, 18, 22, 83, 89, 4, 18, 24, 83, 89, 5, 18, 26, 83, 89, 6]
abbrev dktX1_init_1 : List UInt8 := dkwX1_init_1 ++ dktX1_init_2
def dkwX1_init_0 : List UInt8 := [42, 183, 0, 1, 42, 17, 2, 228, 188, 8, 181, 0, 9, 42, 187, 0, 13, 89, 183, 0, 15, 181, 0, 16]
abbrev dktX1_init_0 : List UInt8 := dkwX1_init_0 ++ dktX1_init_1
theorem dksX1_init_0 : cX1_init.data.toList.drop 0 = dktX1_init_0 := by decide +kernel
theorem dksX1_init_1 : cX1_init.data.toList.drop 24 = dktX1_init_1 := dk_seg dksX1_init_0 24 rfl rfl
theorem dksX1_init_2 : cX1_init.data.toList.drop 47 = dktX1_init_2 := dk_seg dksX1_init_1 23 rfl rfl
theorem dksX1_init_3 : cX1_init.data.toList.drop 71 = dktX1_init_3 := dk_seg dksX1_init_2 24 rfl rfl
theorem dksX1_init_4 : cX1_init.data.toList.drop 94 = dktX1_init_4 := dk_seg dksX1_init_3 23 rfl rfl
theorem dksX1_init_5 : cX1_init.data.toList.drop 117 = dktX1_init_5 := dk_seg dksX1_init_4 23 rfl rfl
theorem dksX1_init_6 : cX1_init.data.toList.drop 141 = dktX1_init_6 := dk_seg dksX1_init_5 24 rfl rfl
theorem dksX1_init_7 : cX1_init.data.toList.drop 165 = dktX1_init_7 := dk_seg dksX1_init_6 24 rfl rfl
theorem dksX1_init_8 : cX1_init.data.toList.drop 189 = dktX1_init_8 := dk_seg dksX1_init_7 24 rfl rfl
theorem dksX1_init_9 : cX1_init.data.toList.drop 212 = dktX1_init_9 := dk_seg dksX1_init_8 23 rfl rfl
theorem dksX1_init_10 : cX1_init.data.toList.drop 235 = dktX1_init_10 := dk_seg dksX1_init_9 23 rfl rfl
theorem dksX1_init_11 : cX1_init.data.toList.drop 258 = dktX1_init_11 := dk_seg dksX1_init_10 23 rfl rfl
theorem dksX1_init_12 : cX1_init.data.toList.drop 280 = dktX1_init_12 := dk_seg dksX1_init_11 22 rfl rfl
theorem dksX1_init_13 : cX1_init.data.toList.drop 303 = dktX1_init_13 := dk_seg dksX1_init_12 23 rfl rfl
theorem dksX1_init_14 : cX1_init.data.toList.drop 327 = dktX1_init_14 := dk_seg dksX1_init_13 24 rfl rfl
theorem dksX1_init_15 : cX1_init.data.toList.drop 351 = dktX1_init_15 := dk_seg dksX1_init_14 24 rfl rfl
theorem dksX1_init_16 : cX1_init.data.toList.drop 375 = dktX1_init_16 := dk_seg dksX1_init_15 24 rfl rfl
theorem dksX1_init_17 : cX1_init.data.toList.drop 398 = dktX1_init_17 := dk_seg dksX1_init_16 23 rfl rfl
theorem dksX1_init_18 : cX1_init.data.toList.drop 422 = dktX1_init_18 := dk_seg dksX1_init_17 24 rfl rfl
theorem dksX1_init_19 : cX1_init.data.toList.drop 446 = dktX1_init_19 := dk_seg dksX1_init_18 24 rfl rfl
theorem dksX1_init_20 : cX1_init.data.toList.drop 468 = dktX1_init_20 := dk_seg dksX1_init_19 22 rfl rfl
theorem dksX1_init_21 : cX1_init.data.toList.drop 491 = dktX1_init_21 := dk_seg dksX1_init_20 23 rfl rfl
theorem dksX1_init_22 : cX1_init.data.toList.drop 515 = dktX1_init_22 := dk_seg dksX1_init_21 24 rfl rfl
theorem dX1_init_0 : decode cX1_init 0 = .ok (.aload_n 0, 1) := dk_42 (dk_at dksX1_init_0 0 rfl rfl)
theorem dX1_init_1 : decode cX1_init 1 = .ok (.invokespecial 1, 3) := dk_183 0 1 (dk_at dksX1_init_0 1 rfl rfl)
theorem dX1_init_4 : decode cX1_init 4 = .ok (.aload_n 0, 1) := dk_42 (dk_at dksX1_init_0 4 rfl rfl)
theorem dX1_init_5 : decode cX1_init 5 = .ok (.sipush 740, 3) := dk_17 2 228 (dk_at dksX1_init_0 5 rfl rfl)
theorem dX1_init_8 : decode cX1_init 8 = .ok (.newarray .byte, 2) := dk_188_8 (dk_at dksX1_init_0 8 rfl rfl)
theorem dX1_init_10 : decode cX1_init 10 = .ok (.putfield 9, 3) := dk_181 0 9 (dk_at dksX1_init_0 10 rfl rfl)
theorem dX1_init_13 : decode cX1_init 13 = .ok (.aload_n 0, 1) := dk_42 (dk_at dksX1_init_0 13 rfl rfl)
theorem dX1_init_14 : decode cX1_init 14 = .ok (.new 13, 3) := dk_187 0 13 (dk_at dksX1_init_0 14 rfl rfl)
theorem dX1_init_17 : decode cX1_init 17 = .ok (.dup, 1) := dk_89 (dk_at dksX1_init_0 17 rfl rfl)
theorem dX1_init_18 : decode cX1_init 18 = .ok (.invokespecial 15, 3) := dk_183 0 15 (dk_at dksX1_init_0 18 rfl rfl)
theorem dX1_init_21 : decode cX1_init 21 = .ok (.putfield 16, 3) := dk_181 0 16 (dk_at dksX1_init_0 21 rfl rfl)
theorem dX1_init_24 : decode cX1_init 24 = .ok (.aload_n 0, 1) := dk_42 (dk_at dksX1_init_1 0 rfl rfl)
theorem dX1_init_25 : decode cX1_init 25 = .ok (.bipush 10, 2) := dk_16 10 (dk_at dksX1_init_1 1 rfl rfl)
theorem dX1_init_27 : decode cX1_init 27 = .ok (.anewarray 20, 3) := dk_189 0 20 (dk_at dksX1_init_1 3 rfl rfl)
theorem dX1_init_30 : decode cX1_init 30 = .ok (.dup, 1) := dk_89 (dk_at dksX1_init_1 6 rfl rfl)
theorem dX1_init_31 : decode cX1_init 31 = .ok (.iconst 0, 1) := dk_3 (dk_at dksX1_init_1 7 rfl rfl)
theorem dX1_init_32 : decode cX1_init 32 = .ok (.ldc 22, 2) := dk_18 22 (dk_at dksX1_init_1 8 rfl rfl)
theorem dX1_init_34 : decode cX1_init 34 = .ok (.aastore, 1) := dk_83 (dk_at dksX1_init_1 10 rfl rfl)
theorem dX1_init_35 : decode cX1_init 35 = .ok (.dup, 1) := dk_89 (dk_at dksX1_init_1 11 rfl rfl)
theorem dX1_init_36 : decode cX1_init 36 = .ok (.iconst 1, 1) := dk_4 (dk_at dksX1_init_1 12 rfl rfl)
theorem dX1_init_37 : decode cX1_init 37 = .ok (.ldc 24, 2) := dk_18 24 (dk_at dksX1_init_1 13 rfl rfl)
theorem dX1_init_39 : decode cX1_init 39 = .ok (.aastore, 1) := dk_83 (dk_at dksX1_init_1 15 rfl rfl)
theorem dX1_init_40 : decode cX1_init 40 = .ok (.dup, 1) := dk_89 (dk_at dksX1_init_1 16 rfl rfl)
theorem dX1_init_41 : decode cX1_init 41 = .ok (.iconst 2, 1) := dk_5 (dk_at dksX1_init_1 17 rfl rfl)
theorem dX1_init_42 : decode cX1_init 42 = .ok (.ldc 26, 2) := dk_18 26 (dk_at dksX1_init_1 18 rfl rfl)
theorem dX1_init_44 : decode cX1_init 44 = .ok (.aastore, 1) := dk_83 (dk_at dksX1_init_1 20 rfl rfl)
theorem dX1_init_45 : decode cX1_init 45 = .ok (.dup, 1) := dk_89 (dk_at dksX1_init_1 21 rfl rfl)
theorem dX1_init_46 : decode cX1_init 46 = .ok (.iconst 3, 1) := dk_6 (dk_at dksX1_init_1 22 rfl rfl)
theorem dX1_init_47 : decode cX1_init 47 = .ok (.ldc 28, 2) := dk_18 28 (dk_at dksX1_init_2 0 rfl rfl)
theorem dX1_init_49 : decode cX1_init 49 = .ok (.aastore, 1) := dk_83 (dk_at dksX1_init_2 2 rfl rfl)
theorem dX1_init_50 : decode cX1_init 50 = .ok (.dup, 1) := dk_89 (dk_at dksX1_init_2 3 rfl rfl)
theorem dX1_init_51 : decode cX1_init 51 = .ok (.iconst 4, 1) := dk_7 (dk_at dksX1_init_2 4 rfl rfl)
theorem dX1_init_52 : decode cX1_init 52 = .ok (.ldc 30, 2) := dk_18 30 (dk_at dksX1_init_2 5 rfl rfl)
theorem dX1_init_54 : decode cX1_init 54 = .ok (.aastore, 1) := dk_83 (dk_at dksX1_init_2 7 rfl rfl)
theorem dX1_init_55 : decode cX1_init 55 = .ok (.dup, 1) := dk_89 (dk_at dksX1_init_2 8 rfl rfl)
theorem dX1_init_56 : decode cX1_init 56 = .ok (.iconst 5, 1) := dk_8 (dk_at dksX1_init_2 9 rfl rfl)
theorem dX1_init_57 : decode cX1_init 57 = .ok (.ldc 32, 2) := dk_18 32 (dk_at dksX1_init_2 10 rfl rfl)
theorem dX1_init_59 : decode cX1_init 59 = .ok (.aastore, 1) := dk_83 (dk_at dksX1_init_2 12 rfl rfl)
theorem dX1_init_60 : decode cX1_init 60 = .ok (.dup, 1) := dk_89 (dk_at dksX1_init_2 13 rfl rfl)
theorem dX1_init_61 : decode cX1_init 61 = .ok (.bipush 6, 2) := dk_16 6 (dk_at dksX1_init_2 14 rfl rfl)
theorem dX1_init_63 : decode cX1_init 63 = .ok (.ldc 34, 2) := dk_18 34 (dk_at dksX1_init_2 16 rfl rfl)
theorem dX1_init_65 : decode cX1_init 65 = .ok (.aastore, 1) := dk_83 (dk_at dksX1_init_2 18 rfl rfl)
theorem dX1_init_66 : decode cX1_init 66 = .ok (.dup, 1) := dk_89 (dk_at dksX1_init_2 19 rfl rfl)
theorem dX1_init_67 : decode cX1_init 67 = .ok (.bipush 7, 2) := dk_16 7 (dk_at dksX1_init_2 20 rfl rfl)
theorem dX1_init_69 : decode cX1_init 69 = .ok (.ldc 36, 2) := dk_18 36 (dk_at dksX1_init_2 22 rfl rfl)
theorem dX1_init_71 : decode cX1_init 71 = .ok (.aastore, 1) := dk_83 (dk_at dksX1_init_3 0 rfl rfl)
theorem dX1_init_72 : decode cX1_init 72 = .ok (.dup, 1) := dk_89 (dk_at dksX1_init_3 1 rfl rfl)
theorem dX1_init_73 : decode cX1_init 73 = .ok (.bipush 8, 2) := dk_16 8 (dk_at dksX1_init_3 2 rfl rfl)
theorem dX1_init_75 : decode cX1_init 75 = .ok (.ldc 38, 2) := dk_18 38 (dk_at dksX1_init_3 4 rfl rfl)
theorem dX1_init_77 : decode cX1_init 77 = .ok (.aastore, 1) := dk_83 (dk_at dksX1_init_3 6 rfl rfl)
theorem dX1_init_78 : decode cX1_init 78 = .ok (.dup, 1) := dk_89 (dk_at dksX1_init_3 7 rfl rfl)
theorem dX1_init_79 : decode cX1_init 79 = .ok (.bipush 9, 2) := dk_16 9 (dk_at dksX1_init_3 8 rfl rfl)
theorem dX1_init_81 : decode cX1_init 81 = .ok (.ldc 40, 2) := dk_18 40 (dk_at dksX1_init_3 10 rfl rfl)
theorem dX1_init_83 : decode cX1_init 83 = .ok (.aastore, 1) := dk_83 (dk_at dksX1_init_3 12 rfl rfl)
theorem dX1_init_84 : decode cX1_init 84 = .ok (.putfield 42, 3) := dk_181 0 42 (dk_at dksX1_init_3 13 rfl rfl)
theorem dX1_init_87 : decode cX1_init 87 = .ok (.aload_n 0, 1) := dk_42 (dk_at dksX1_init_3 16 rfl rfl)
theorem dX1_init_88 : decode cX1_init 88 = .ok (.iconst 4, 1) := dk_7 (dk_at dksX1_init_3 17 rfl rfl)
theorem dX1_init_89 : decode cX1_init 89 = .ok (.anewarray 20, 3) := dk_189 0 20 (dk_at dksX1_init_3 18 rfl rfl)
theorem dX1_init_92 : decode cX1_init 92 = .ok (.dup, 1) := dk_89 (dk_at dksX1_init_3 21 rfl rfl)
theorem dX1_init_93 : decode cX1_init 93 = .ok (.iconst 0, 1) := dk_3 (dk_at dksX1_init_3 22 rfl rfl)
theorem dX1_init_94 : decode cX1_init 94 = .ok (.ldc 46, 2) := dk_18 46 (dk_at dksX1_init_4 0 rfl rfl)
theorem dX1_init_96 : decode cX1_init 96 = .ok (.aastore, 1) := dk_83 (dk_at dksX1_init_4 2 rfl rfl)
theorem dX1_init_97 : decode cX1_init 97 = .ok (.dup, 1) := dk_89 (dk_at dksX1_init_4 3 rfl rfl)
theorem dX1_init_98 : decode cX1_init 98 = .ok (.iconst 1, 1) := dk_4 (dk_at dksX1_init_4 4 rfl rfl)
theorem dX1_init_99 : decode cX1_init 99 = .ok (.ldc 48, 2) := dk_18 48 (dk_at dksX1_init_4 5 rfl rfl)
theorem dX1_init_101 : decode cX1_init 101 = .ok (.aastore, 1) := dk_83 (dk_at dksX1_init_4 7 rfl rfl)
theorem dX1_init_102 : decode cX1_init 102 = .ok (.dup, 1) := dk_89 (dk_at dksX1_init_4 8 rfl rfl)
theorem dX1_init_103 : decode cX1_init 103 = .ok (.iconst 2, 1) := dk_5 (dk_at dksX1_init_4 9 rfl rfl)
theorem dX1_init_104 : decode cX1_init 104 = .ok (.ldc 50, 2) := dk_18 50 (dk_at dksX1_init_4 10 rfl rfl)
theorem dX1_init_106 : decode cX1_init 106 = .ok (.aastore, 1) := dk_83 (dk_at dksX1_init_4 12 rfl rfl)
theorem dX1_init_107 : decode cX1_init 107 = .ok (.dup, 1) := dk_89 (dk_at dksX1_init_4 13 rfl rfl)
theorem dX1_init_108 : decode cX1_init 108 = .ok (.iconst 3, 1) := dk_6 (dk_at dksX1_init_4 14 rfl rfl)
theorem dX1_init_109 : decode cX1_init 109 = .ok (.ldc 52, 2) := dk_18 52 (dk_at dksX1_init_4 15 rfl rfl)
theorem dX1_init_111 : decode cX1_init 111 = .ok (.aastore, 1) := dk_83 (dk_at dksX1_init_4 17 rfl rfl)
theorem dX1_init_112 : decode cX1_init 112 = .ok (.putfield 54, 3) := dk_181 0 54 (dk_at dksX1_init_4 18 rfl rfl)
theorem dX1_init_115 : decode cX1_init 115 = .ok (.aload_n 0, 1) := dk_42 (dk_at dksX1_init_4 21 rfl rfl)
theorem dX1_init_116 : decode cX1_init 116 = .ok (.iconst 5, 1) := dk_8 (dk_at dksX1_init_4 22 rfl rfl)
theorem dX1_init_117 : decode cX1_init 117 = .ok (.anewarray 20, 3) := dk_189 0 20 (dk_at dksX1_init_5 0 rfl rfl)
theorem dX1_init_120 : decode cX1_init 120 = .ok (.dup, 1) := dk_89 (dk_at dksX1_init_5 3 rfl rfl)
theorem dX1_init_121 : decode cX1_init 121 = .ok (.iconst 0, 1) := dk_3 (dk_at dksX1_init_5 4 rfl rfl)
theorem dX1_init_122 : decode cX1_init 122 = .ok (.ldc 57, 2) := dk_18 57 (dk_at dksX1_init_5 5 rfl rfl)
theorem dX1_init_124 : decode cX1_init 124 = .ok (.aastore, 1) := dk_83 (dk_at dksX1_init_5 7 rfl rfl)
theorem dX1_init_125 : decode cX1_init 125 = .ok (.dup, 1) := dk_89 (dk_at dksX1_init_5 8 rfl rfl)
theorem dX1_init_126 : decode cX1_init 126 = .ok (.iconst 1, 1) := dk_4 (dk_at dksX1_init_5 9 rfl rfl)
theorem dX1_init_127 : decode cX1_init 127 = .ok (.ldc 59, 2) := dk_18 59 (dk_at dksX1_init_5 10 rfl rfl)
theorem dX1_init_129 : decode cX1_init 129 = .ok (.aastore, 1) := dk_83 (dk_at dksX1_init_5 12 rfl rfl)
theorem dX1_init_130 : decode cX1_init 130 = .ok (.dup, 1) := dk_89 (dk_at dksX1_init_5 13 rfl rfl)
theorem dX1_init_131 : decode cX1_init 131 = .ok (.iconst 2, 1) := dk_5 (dk_at dksX1_init_5 14 rfl rfl)
theorem dX1_init_132 : decode cX1_init 132 = .ok (.ldc 61, 2) := dk_18 61 (dk_at dksX1_init_5 15 rfl rfl)
theorem dX1_init_134 : decode cX1_init 134 = .ok (.aastore, 1) := dk_83 (dk_at dksX1_init_5 17 rfl rfl)
theorem dX1_init_135 : decode cX1_init 135 = .ok (.dup, 1) := dk_89 (dk_at dksX1_init_5 18 rfl rfl)
theorem dX1_init_136 : decode cX1_init 136 = .ok (.iconst 3, 1) := dk_6 (dk_at dksX1_init_5 19 rfl rfl)
theorem dX1_init_137 : decode cX1_init 137 = .ok (.ldc 63, 2) := dk_18 63 (dk_at dksX1_init_5 20 rfl rfl)
theorem dX1_init_139 : decode cX1_init 139 = .ok (.aastore, 1) := dk_83 (dk_at dksX1_init_5 22 rfl rfl)
theorem dX1_init_140 : decode cX1_init 140 = .ok (.dup, 1) := dk_89 (dk_at dksX1_init_5 23 rfl rfl)
theorem dX1_init_141 : decode cX1_init 141 = .ok (.iconst 4, 1) := dk_7 (dk_at dksX1_init_6 0 rfl rfl)
theorem dX1_init_142 : decode cX1_init 142 = .ok (.ldc 65, 2) := dk_18 65 (dk_at dksX1_init_6 1 rfl rfl)
theorem dX1_init_144 : decode cX1_init 144 = .ok (.aastore, 1) := dk_83 (dk_at dksX1_init_6 3 rfl rfl)
theorem dX1_init_145 : decode cX1_init 145 = .ok (.putfield 67, 3) := dk_181 0 67 (dk_at dksX1_init_6 4 rfl rfl)
theorem dX1_init_148 : decode cX1_init 148 = .ok (.aload_n 0, 1) := dk_42 (dk_at dksX1_init_6 7 rfl rfl)
theorem dX1_init_149 : decode cX1_init 149 = .ok (.bipush 10, 2) := dk_16 10 (dk_at dksX1_init_6 8 rfl rfl)
theorem dX1_init_151 : decode cX1_init 151 = .ok (.anewarray 20, 3) := dk_189 0 20 (dk_at dksX1_init_6 10 rfl rfl)
theorem dX1_init_154 : decode cX1_init 154 = .ok (.dup, 1) := dk_89 (dk_at dksX1_init_6 13 rfl rfl)
theorem dX1_init_155 : decode cX1_init 155 = .ok (.iconst 0, 1) := dk_3 (dk_at dksX1_init_6 14 rfl rfl)
theorem dX1_init_156 : decode cX1_init 156 = .ok (.ldc 70, 2) := dk_18 70 (dk_at dksX1_init_6 15 rfl rfl)
theorem dX1_init_158 : decode cX1_init 158 = .ok (.aastore, 1) := dk_83 (dk_at dksX1_init_6 17 rfl rfl)
theorem dX1_init_159 : decode cX1_init 159 = .ok (.dup, 1) := dk_89 (dk_at dksX1_init_6 18 rfl rfl)
theorem dX1_init_160 : decode cX1_init 160 = .ok (.iconst 1, 1) := dk_4 (dk_at dksX1_init_6 19 rfl rfl)
theorem dX1_init_161 : decode cX1_init 161 = .ok (.ldc 72, 2) := dk_18 72 (dk_at dksX1_init_6 20 rfl rfl)
theorem dX1_init_163 : decode cX1_init 163 = .ok (.aastore, 1) := dk_83 (dk_at dksX1_init_6 22 rfl rfl)
theorem dX1_init_164 : decode cX1_init 164 = .ok (.dup, 1) := dk_89 (dk_at dksX1_init_6 23 rfl rfl)
theorem dX1_init_165 : decode cX1_init 165 = .ok (.iconst 2, 1) := dk_5 (dk_at dksX1_init_7 0 rfl rfl)
theorem dX1_init_166 : decode cX1_init 166 = .ok (.ldc 74, 2) := dk_18 74 (dk_at dksX1_init_7 1 rfl rfl)
theorem dX1_init_168 : decode cX1_init 168 = .ok (.aastore, 1) := dk_83 (dk_at dksX1_init_7 3 rfl rfl)
theorem dX1_init_169 : decode cX1_init 169 = .ok (.dup, 1) := dk_89 (dk_at dksX1_init_7 4 rfl rfl)
theorem dX1_init_170 : decode cX1_init 170 = .ok (.iconst 3, 1) := dk_6 (dk_at dksX1_init_7 5 rfl rfl)
theorem dX1_init_171 : decode cX1_init 171 = .ok (.ldc 76, 2) := dk_18 76 (dk_at dksX1_init_7 6 rfl rfl)
theorem dX1_init_173 : decode cX1_init 173 = .ok (.aastore, 1) := dk_83 (dk_at dksX1_init_7 8 rfl rfl)
theorem dX1_init_174 : decode cX1_init 174 = .ok (.dup, 1) := dk_89 (dk_at dksX1_init_7 9 rfl rfl)
theorem dX1_init_175 : decode cX1_init 175 = .ok (.iconst 4, 1) := dk_7 (dk_at dksX1_init_7 10 rfl rfl)
theorem dX1_init_176 : decode cX1_init 176 = .ok (.ldc 78, 2) := dk_18 78 (dk_at dksX1_init_7 11 rfl rfl)
theorem dX1_init_178 : decode cX1_init 178 = .ok (.aastore, 1) := dk_83 (dk_at dksX1_init_7 13 rfl rfl)
theorem dX1_init_179 : decode cX1_init 179 = .ok (.dup, 1) := dk_89 (dk_at dksX1_init_7 14 rfl rfl)
theorem dX1_init_180 : decode cX1_init 180 = .ok (.iconst 5, 1) := dk_8 (dk_at dksX1_init_7 15 rfl rfl)
theorem dX1_init_181 : decode cX1_init 181 = .ok (.ldc 80, 2) := dk_18 80 (dk_at dksX1_init_7 16 rfl rfl)
theorem dX1_init_183 : decode cX1_init 183 = .ok (.aastore, 1) := dk_83 (dk_at dksX1_init_7 18 rfl rfl)
theorem dX1_init_184 : decode cX1_init 184 = .ok (.dup, 1) := dk_89 (dk_at dksX1_init_7 19 rfl rfl)
theorem dX1_init_185 : decode cX1_init 185 = .ok (.bipush 6, 2) := dk_16 6 (dk_at dksX1_init_7 20 rfl rfl)
theorem dX1_init_187 : decode cX1_init 187 = .ok (.ldc 82, 2) := dk_18 82 (dk_at dksX1_init_7 22 rfl rfl)
theorem dX1_init_189 : decode cX1_init 189 = .ok (.aastore, 1) := dk_83 (dk_at dksX1_init_8 0 rfl rfl)
theorem dX1_init_190 : decode cX1_init 190 = .ok (.dup, 1) := dk_89 (dk_at dksX1_init_8 1 rfl rfl)
theorem dX1_init_191 : decode cX1_init 191 = .ok (.bipush 7, 2) := dk_16 7 (dk_at dksX1_init_8 2 rfl rfl)
theorem dX1_init_193 : decode cX1_init 193 = .ok (.ldc 84, 2) := dk_18 84 (dk_at dksX1_init_8 4 rfl rfl)
theorem dX1_init_195 : decode cX1_init 195 = .ok (.aastore, 1) := dk_83 (dk_at dksX1_init_8 6 rfl rfl)
theorem dX1_init_196 : decode cX1_init 196 = .ok (.dup, 1) := dk_89 (dk_at dksX1_init_8 7 rfl rfl)
theorem dX1_init_197 : decode cX1_init 197 = .ok (.bipush 8, 2) := dk_16 8 (dk_at dksX1_init_8 8 rfl rfl)
theorem dX1_init_199 : decode cX1_init 199 = .ok (.ldc 86, 2) := dk_18 86 (dk_at dksX1_init_8 10 rfl rfl)
theorem dX1_init_201 : decode cX1_init 201 = .ok (.aastore, 1) := dk_83 (dk_at dksX1_init_8 12 rfl rfl)
theorem dX1_init_202 : decode cX1_init 202 = .ok (.dup, 1) := dk_89 (dk_at dksX1_init_8 13 rfl rfl)
theorem dX1_init_203 : decode cX1_init 203 = .ok (.bipush 9, 2) := dk_16 9 (dk_at dksX1_init_8 14 rfl rfl)
theorem dX1_init_205 : decode cX1_init 205 = .ok (.ldc 88, 2) := dk_18 88 (dk_at dksX1_init_8 16 rfl rfl)
theorem dX1_init_207 : decode cX1_init 207 = .ok (.aastore, 1) := dk_83 (dk_at dksX1_init_8 18 rfl rfl)
theorem dX1_init_208 : decode cX1_init 208 = .ok (.putfield 90, 3) := dk_181 0 90 (dk_at dksX1_init_8 19 rfl rfl)
theorem dX1_init_211 : decode cX1_init 211 = .ok (.aload_n 0, 1) := dk_42 (dk_at dksX1_init_8 22 rfl rfl)
theorem dX1_init_212 : decode cX1_init 212 = .ok (.new 93, 3) := dk_187 0 93 (dk_at dksX1_init_9 0 rfl rfl)
theorem dX1_init_215 : decode cX1_init 215 = .ok (.dup, 1) := dk_89 (dk_at dksX1_init_9 3 rfl rfl)
theorem dX1_init_216 : decode cX1_init 216 = .ok (.invokespecial 95, 3) := dk_183 0 95 (dk_at dksX1_init_9 4 rfl rfl)
theorem dX1_init_219 : decode cX1_init 219 = .ok (.putfield 96, 3) := dk_181 0 96 (dk_at dksX1_init_9 7 rfl rfl)
theorem dX1_init_222 : decode cX1_init 222 = .ok (.aload_n 0, 1) := dk_42 (dk_at dksX1_init_9 10 rfl rfl)
theorem dX1_init_223 : decode cX1_init 223 = .ok (.new 100, 3) := dk_187 0 100 (dk_at dksX1_init_9 11 rfl rfl)
theorem dX1_init_226 : decode cX1_init 226 = .ok (.dup, 1) := dk_89 (dk_at dksX1_init_9 14 rfl rfl)
theorem dX1_init_227 : decode cX1_init 227 = .ok (.aload_n 0, 1) := dk_42 (dk_at dksX1_init_9 15 rfl rfl)
theorem dX1_init_228 : decode cX1_init 228 = .ok (.invokespecial 102, 3) := dk_183 0 102 (dk_at dksX1_init_9 16 rfl rfl)
theorem dX1_init_231 : decode cX1_init 231 = .ok (.putfield 105, 3) := dk_181 0 105 (dk_at dksX1_init_9 19 rfl rfl)
theorem dX1_init_234 : decode cX1_init 234 = .ok (.aload_n 0, 1) := dk_42 (dk_at dksX1_init_9 22 rfl rfl)
theorem dX1_init_235 : decode cX1_init 235 = .ok (.new 109, 3) := dk_187 0 109 (dk_at dksX1_init_10 0 rfl rfl)
theorem dX1_init_238 : decode cX1_init 238 = .ok (.dup, 1) := dk_89 (dk_at dksX1_init_10 3 rfl rfl)
theorem dX1_init_239 : decode cX1_init 239 = .ok (.aload_n 0, 1) := dk_42 (dk_at dksX1_init_10 4 rfl rfl)
theorem dX1_init_240 : decode cX1_init 240 = .ok (.invokespecial 111, 3) := dk_183 0 111 (dk_at dksX1_init_10 5 rfl rfl)
theorem dX1_init_243 : decode cX1_init 243 = .ok (.putfield 112, 3) := dk_181 0 112 (dk_at dksX1_init_10 8 rfl rfl)
theorem dX1_init_246 : decode cX1_init 246 = .ok (.aload_n 0, 1) := dk_42 (dk_at dksX1_init_10 11 rfl rfl)
theorem dX1_init_247 : decode cX1_init 247 = .ok (.new 116, 3) := dk_187 0 116 (dk_at dksX1_init_10 12 rfl rfl)
theorem dX1_init_250 : decode cX1_init 250 = .ok (.dup, 1) := dk_89 (dk_at dksX1_init_10 15 rfl rfl)
theorem dX1_init_251 : decode cX1_init 251 = .ok (.invokespecial 118, 3) := dk_183 0 118 (dk_at dksX1_init_10 16 rfl rfl)
theorem dX1_init_254 : decode cX1_init 254 = .ok (.putfield 119, 3) := dk_181 0 119 (dk_at dksX1_init_10 19 rfl rfl)
theorem dX1_init_257 : decode cX1_init 257 = .ok (.aload_n 0, 1) := dk_42 (dk_at dksX1_init_10 22 rfl rfl)
theorem dX1_init_258 : decode cX1_init 258 = .ok (.new 116, 3) := dk_187 0 116 (dk_at dksX1_init_11 0 rfl rfl)
theorem dX1_init_261 : decode cX1_init 261 = .ok (.dup, 1) := dk_89 (dk_at dksX1_init_11 3 rfl rfl)
theorem dX1_init_262 : decode cX1_init 262 = .ok (.invokespecial 118, 3) := dk_183 0 118 (dk_at dksX1_init_11 4 rfl rfl)
theorem dX1_init_265 : decode cX1_init 265 = .ok (.putfield 122, 3) := dk_181 0 122 (dk_at dksX1_init_11 7 rfl rfl)
theorem dX1_init_268 : decode cX1_init 268 = .ok (.aload_n 0, 1) := dk_42 (dk_at dksX1_init_11 10 rfl rfl)
theorem dX1_init_269 : decode cX1_init 269 = .ok (.new 125, 3) := dk_187 0 125 (dk_at dksX1_init_11 11 rfl rfl)
theorem dX1_init_272 : decode cX1_init 272 = .ok (.dup, 1) := dk_89 (dk_at dksX1_init_11 14 rfl rfl)
theorem dX1_init_273 : decode cX1_init 273 = .ok (.invokespecial 127, 3) := dk_183 0 127 (dk_at dksX1_init_11 15 rfl rfl)
theorem dX1_init_276 : decode cX1_init 276 = .ok (.putfield 128, 3) := dk_181 0 128 (dk_at dksX1_init_11 18 rfl rfl)
theorem dX1_init_279 : decode cX1_init 279 = .ok (.aload_n 0, 1) := dk_42 (dk_at dksX1_init_11 21 rfl rfl)
theorem dX1_init_280 : decode cX1_init 280 = .ok (.new 125, 3) := dk_187 0 125 (dk_at dksX1_init_12 0 rfl rfl)
theorem dX1_init_283 : decode cX1_init 283 = .ok (.dup, 1) := dk_89 (dk_at dksX1_init_12 3 rfl rfl)
theorem dX1_init_284 : decode cX1_init 284 = .ok (.invokespecial 127, 3) := dk_183 0 127 (dk_at dksX1_init_12 4 rfl rfl)
theorem dX1_init_287 : decode cX1_init 287 = .ok (.putfield 132, 3) := dk_181 0 132 (dk_at dksX1_init_12 7 rfl rfl)
theorem dX1_init_290 : decode cX1_init 290 = .ok (.aload_n 0, 1) := dk_42 (dk_at dksX1_init_12 10 rfl rfl)
theorem dX1_init_291 : decode cX1_init 291 = .ok (.bipush 12, 2) := dk_16 12 (dk_at dksX1_init_12 11 rfl rfl)
theorem dX1_init_293 : decode cX1_init 293 = .ok (.newarray .int, 2) := dk_188_10 (dk_at dksX1_init_12 13 rfl rfl)
theorem dX1_init_295 : decode cX1_init 295 = .ok (.putfield 135, 3) := dk_181 0 135 (dk_at dksX1_init_12 15 rfl rfl)
theorem dX1_init_298 : decode cX1_init 298 = .ok (.aload_n 0, 1) := dk_42 (dk_at dksX1_init_12 18 rfl rfl)
theorem dX1_init_299 : decode cX1_init 299 = .ok (.bipush 6, 2) := dk_16 6 (dk_at dksX1_init_12 19 rfl rfl)
theorem dX1_init_301 : decode cX1_init 301 = .ok (.newarray .int, 2) := dk_188_10 (dk_at dksX1_init_12 21 rfl rfl)
theorem dX1_init_303 : decode cX1_init 303 = .ok (.putfield 139, 3) := dk_181 0 139 (dk_at dksX1_init_13 0 rfl rfl)
theorem dX1_init_306 : decode cX1_init 306 = .ok (.aload_n 0, 1) := dk_42 (dk_at dksX1_init_13 3 rfl rfl)
theorem dX1_init_307 : decode cX1_init 307 = .ok (.bipush 12, 2) := dk_16 12 (dk_at dksX1_init_13 4 rfl rfl)
theorem dX1_init_309 : decode cX1_init 309 = .ok (.newarray .int, 2) := dk_188_10 (dk_at dksX1_init_13 6 rfl rfl)
theorem dX1_init_311 : decode cX1_init 311 = .ok (.putfield 142, 3) := dk_181 0 142 (dk_at dksX1_init_13 8 rfl rfl)
theorem dX1_init_314 : decode cX1_init 314 = .ok (.aload_n 0, 1) := dk_42 (dk_at dksX1_init_13 11 rfl rfl)
theorem dX1_init_315 : decode cX1_init 315 = .ok (.bipush 7, 2) := dk_16 7 (dk_at dksX1_init_13 12 rfl rfl)
theorem dX1_init_317 : decode cX1_init 317 = .ok (.newarray .int, 2) := dk_188_10 (dk_at dksX1_init_13 14 rfl rfl)
theorem dX1_init_319 : decode cX1_init 319 = .ok (.putfield 145, 3) := dk_181 0 145 (dk_at dksX1_init_13 16 rfl rfl)
theorem dX1_init_322 : decode cX1_init 322 = .ok (.aload_n 0, 1) := dk_42 (dk_at dksX1_init_13 19 rfl rfl)
theorem dX1_init_323 : decode cX1_init 323 = .ok (.bipush 7, 2) := dk_16 7 (dk_at dksX1_init_13 20 rfl rfl)
theorem dX1_init_325 : decode cX1_init 325 = .ok (.newarray .int, 2) := dk_188_10 (dk_at dksX1_init_13 22 rfl rfl)
theorem dX1_init_327 : decode cX1_init 327 = .ok (.putfield 148, 3) := dk_181 0 148 (dk_at dksX1_init_14 0 rfl rfl)
theorem dX1_init_330 : decode cX1_init 330 = .ok (.aload_n 0, 1) := dk_42 (dk_at dksX1_init_14 3 rfl rfl)
theorem dX1_init_331 : decode cX1_init 331 = .ok (.bipush 12, 2) := dk_16 12 (dk_at dksX1_init_14 4 rfl rfl)
theorem dX1_init_333 : decode cX1_init 333 = .ok (.newarray .int, 2) := dk_188_10 (dk_at dksX1_init_14 6 rfl rfl)
theorem dX1_init_335 : decode cX1_init 335 = .ok (.putfield 151, 3) := dk_181 0 151 (dk_at dksX1_init_14 8 rfl rfl)
theorem dX1_init_338 : decode cX1_init 338 = .ok (.aload_n 0, 1) := dk_42 (dk_at dksX1_init_14 11 rfl rfl)
theorem dX1_init_339 : decode cX1_init 339 = .ok (.bipush 12, 2) := dk_16 12 (dk_at dksX1_init_14 12 rfl rfl)
theorem dX1_init_341 : decode cX1_init 341 = .ok (.newarray .int, 2) := dk_188_10 (dk_at dksX1_init_14 14 rfl rfl)
theorem dX1_init_343 : decode cX1_init 343 = .ok (.putfield 154, 3) := dk_181 0 154 (dk_at dksX1_init_14 16 rfl rfl)
theorem dX1_init_346 : decode cX1_init 346 = .ok (.aload_n 0, 1) := dk_42 (dk_at dksX1_init_14 19 rfl rfl)
theorem dX1_init_347 : decode cX1_init 347 = .ok (.bipush 12, 2) := dk_16 12 (dk_at dksX1_init_14 20 rfl rfl)
theorem dX1_init_349 : decode cX1_init 349 = .ok (.newarray .int, 2) := dk_188_10 (dk_at dksX1_init_14 22 rfl rfl)
theorem dX1_init_351 : decode cX1_init 351 = .ok (.putfield 157, 3) := dk_181 0 157 (dk_at dksX1_init_15 0 rfl rfl)
theorem dX1_init_354 : decode cX1_init 354 = .ok (.aload_n 0, 1) := dk_42 (dk_at dksX1_init_15 3 rfl rfl)
theorem dX1_init_355 : decode cX1_init 355 = .ok (.bipush 6, 2) := dk_16 6 (dk_at dksX1_init_15 4 rfl rfl)
theorem dX1_init_357 : decode cX1_init 357 = .ok (.newarray .int, 2) := dk_188_10 (dk_at dksX1_init_15 6 rfl rfl)
theorem dX1_init_359 : decode cX1_init 359 = .ok (.putfield 160, 3) := dk_181 0 160 (dk_at dksX1_init_15 8 rfl rfl)
theorem dX1_init_362 : decode cX1_init 362 = .ok (.aload_n 0, 1) := dk_42 (dk_at dksX1_init_15 11 rfl rfl)
theorem dX1_init_363 : decode cX1_init 363 = .ok (.bipush 6, 2) := dk_16 6 (dk_at dksX1_init_15 12 rfl rfl)
theorem dX1_init_365 : decode cX1_init 365 = .ok (.newarray .int, 2) := dk_188_10 (dk_at dksX1_init_15 14 rfl rfl)
theorem dX1_init_367 : decode cX1_init 367 = .ok (.putfield 163, 3) := dk_181 0 163 (dk_at dksX1_init_15 16 rfl rfl)
theorem dX1_init_370 : decode cX1_init 370 = .ok (.aload_n 0, 1) := dk_42 (dk_at dksX1_init_15 19 rfl rfl)
theorem dX1_init_371 : decode cX1_init 371 = .ok (.new 166, 3) := dk_187 0 166 (dk_at dksX1_init_15 20 rfl rfl)
theorem dX1_init_374 : decode cX1_init 374 = .ok (.dup, 1) := dk_89 (dk_at dksX1_init_15 23 rfl rfl)
theorem dX1_init_375 : decode cX1_init 375 = .ok (.invokespecial 168, 3) := dk_183 0 168 (dk_at dksX1_init_16 0 rfl rfl)
theorem dX1_init_378 : decode cX1_init 378 = .ok (.putfield 169, 3) := dk_181 0 169 (dk_at dksX1_init_16 3 rfl rfl)
theorem dX1_init_381 : decode cX1_init 381 = .ok (.aload_n 0, 1) := dk_42 (dk_at dksX1_init_16 6 rfl rfl)
theorem dX1_init_382 : decode cX1_init 382 = .ok (.new 166, 3) := dk_187 0 166 (dk_at dksX1_init_16 7 rfl rfl)
theorem dX1_init_385 : decode cX1_init 385 = .ok (.dup, 1) := dk_89 (dk_at dksX1_init_16 10 rfl rfl)
theorem dX1_init_386 : decode cX1_init 386 = .ok (.invokespecial 168, 3) := dk_183 0 168 (dk_at dksX1_init_16 11 rfl rfl)
theorem dX1_init_389 : decode cX1_init 389 = .ok (.putfield 173, 3) := dk_181 0 173 (dk_at dksX1_init_16 14 rfl rfl)
theorem dX1_init_392 : decode cX1_init 392 = .ok (.aload_n 0, 1) := dk_42 (dk_at dksX1_init_16 17 rfl rfl)
theorem dX1_init_393 : decode cX1_init 393 = .ok (.bipush 21, 2) := dk_16 21 (dk_at dksX1_init_16 18 rfl rfl)
theorem dX1_init_395 : decode cX1_init 395 = .ok (.anewarray 166, 3) := dk_189 0 166 (dk_at dksX1_init_16 20 rfl rfl)
theorem dX1_init_398 : decode cX1_init 398 = .ok (.putfield 176, 3) := dk_181 0 176 (dk_at dksX1_init_17 0 rfl rfl)
theorem dX1_init_401 : decode cX1_init 401 = .ok (.aload_n 0, 1) := dk_42 (dk_at dksX1_init_17 3 rfl rfl)
theorem dX1_init_402 : decode cX1_init 402 = .ok (.iconst 4, 1) := dk_7 (dk_at dksX1_init_17 4 rfl rfl)
theorem dX1_init_403 : decode cX1_init 403 = .ok (.anewarray 166, 3) := dk_189 0 166 (dk_at dksX1_init_17 5 rfl rfl)
theorem dX1_init_406 : decode cX1_init 406 = .ok (.dup, 1) := dk_89 (dk_at dksX1_init_17 8 rfl rfl)
theorem dX1_init_407 : decode cX1_init 407 = .ok (.iconst 0, 1) := dk_3 (dk_at dksX1_init_17 9 rfl rfl)
theorem dX1_init_408 : decode cX1_init 408 = .ok (.new 166, 3) := dk_187 0 166 (dk_at dksX1_init_17 10 rfl rfl)
theorem dX1_init_411 : decode cX1_init 411 = .ok (.dup, 1) := dk_89 (dk_at dksX1_init_17 13 rfl rfl)
theorem dX1_init_412 : decode cX1_init 412 = .ok (.invokespecial 168, 3) := dk_183 0 168 (dk_at dksX1_init_17 14 rfl rfl)
theorem dX1_init_415 : decode cX1_init 415 = .ok (.aastore, 1) := dk_83 (dk_at dksX1_init_17 17 rfl rfl)
theorem dX1_init_416 : decode cX1_init 416 = .ok (.dup, 1) := dk_89 (dk_at dksX1_init_17 18 rfl rfl)
theorem dX1_init_417 : decode cX1_init 417 = .ok (.iconst 1, 1) := dk_4 (dk_at dksX1_init_17 19 rfl rfl)
theorem dX1_init_418 : decode cX1_init 418 = .ok (.new 166, 3) := dk_187 0 166 (dk_at dksX1_init_17 20 rfl rfl)
theorem dX1_init_421 : decode cX1_init 421 = .ok (.dup, 1) := dk_89 (dk_at dksX1_init_17 23 rfl rfl)
theorem dX1_init_422 : decode cX1_init 422 = .ok (.invokespecial 168, 3) := dk_183 0 168 (dk_at dksX1_init_18 0 rfl rfl)
theorem dX1_init_425 : decode cX1_init 425 = .ok (.aastore, 1) := dk_83 (dk_at dksX1_init_18 3 rfl rfl)
theorem dX1_init_426 : decode cX1_init 426 = .ok (.dup, 1) := dk_89 (dk_at dksX1_init_18 4 rfl rfl)
theorem dX1_init_427 : decode cX1_init 427 = .ok (.iconst 2, 1) := dk_5 (dk_at dksX1_init_18 5 rfl rfl)
theorem dX1_init_428 : decode cX1_init 428 = .ok (.new 166, 3) := dk_187 0 166 (dk_at dksX1_init_18 6 rfl rfl)
theorem dX1_init_431 : decode cX1_init 431 = .ok (.dup, 1) := dk_89 (dk_at dksX1_init_18 9 rfl rfl)
theorem dX1_init_432 : decode cX1_init 432 = .ok (.invokespecial 168, 3) := dk_183 0 168 (dk_at dksX1_init_18 10 rfl rfl)
theorem dX1_init_435 : decode cX1_init 435 = .ok (.aastore, 1) := dk_83 (dk_at dksX1_init_18 13 rfl rfl)
theorem dX1_init_436 : decode cX1_init 436 = .ok (.dup, 1) := dk_89 (dk_at dksX1_init_18 14 rfl rfl)
theorem dX1_init_437 : decode cX1_init 437 = .ok (.iconst 3, 1) := dk_6 (dk_at dksX1_init_18 15 rfl rfl)
theorem dX1_init_438 : decode cX1_init 438 = .ok (.new 166, 3) := dk_187 0 166 (dk_at dksX1_init_18 16 rfl rfl)
theorem dX1_init_441 : decode cX1_init 441 = .ok (.dup, 1) := dk_89 (dk_at dksX1_init_18 19 rfl rfl)
theorem dX1_init_442 : decode cX1_init 442 = .ok (.invokespecial 168, 3) := dk_183 0 168 (dk_at dksX1_init_18 20 rfl rfl)
theorem dX1_init_445 : decode cX1_init 445 = .ok (.aastore, 1) := dk_83 (dk_at dksX1_init_18 23 rfl rfl)
theorem dX1_init_446 : decode cX1_init 446 = .ok (.putfield 180, 3) := dk_181 0 180 (dk_at dksX1_init_19 0 rfl rfl)
theorem dX1_init_449 : decode cX1_init 449 = .ok (.aload_n 0, 1) := dk_42 (dk_at dksX1_init_19 3 rfl rfl)
theorem dX1_init_450 : decode cX1_init 450 = .ok (.iconst 3, 1) := dk_6 (dk_at dksX1_init_19 4 rfl rfl)
theorem dX1_init_451 : decode cX1_init 451 = .ok (.newarray .int, 2) := dk_188_10 (dk_at dksX1_init_19 5 rfl rfl)
theorem dX1_init_453 : decode cX1_init 453 = .ok (.putfield 183, 3) := dk_181 0 183 (dk_at dksX1_init_19 7 rfl rfl)
theorem dX1_init_456 : decode cX1_init 456 = .ok (.aload_n 0, 1) := dk_42 (dk_at dksX1_init_19 10 rfl rfl)
theorem dX1_init_457 : decode cX1_init 457 = .ok (.iconst 3, 1) := dk_6 (dk_at dksX1_init_19 11 rfl rfl)
theorem dX1_init_458 : decode cX1_init 458 = .ok (.newarray .int, 2) := dk_188_10 (dk_at dksX1_init_19 12 rfl rfl)
theorem dX1_init_460 : decode cX1_init 460 = .ok (.putfield 186, 3) := dk_181 0 186 (dk_at dksX1_init_19 14 rfl rfl)
theorem dX1_init_463 : decode cX1_init 463 = .ok (.aload_n 0, 1) := dk_42 (dk_at dksX1_init_19 17 rfl rfl)
theorem dX1_init_464 : decode cX1_init 464 = .ok (.new 166, 3) := dk_187 0 166 (dk_at dksX1_init_19 18 rfl rfl)
theorem dX1_init_467 : decode cX1_init 467 = .ok (.dup, 1) := dk_89 (dk_at dksX1_init_19 21 rfl rfl)
theorem dX1_init_468 : decode cX1_init 468 = .ok (.invokespecial 168, 3) := dk_183 0 168 (dk_at dksX1_init_20 0 rfl rfl)
theorem dX1_init_471 : decode cX1_init 471 = .ok (.putfield 189, 3) := dk_181 0 189 (dk_at dksX1_init_20 3 rfl rfl)
theorem dX1_init_474 : decode cX1_init 474 = .ok (.aload_n 0, 1) := dk_42 (dk_at dksX1_init_20 6 rfl rfl)
theorem dX1_init_475 : decode cX1_init 475 = .ok (.bipush 60, 2) := dk_16 60 (dk_at dksX1_init_20 7 rfl rfl)
theorem dX1_init_477 : decode cX1_init 477 = .ok (.newarray .int, 2) := dk_188_10 (dk_at dksX1_init_20 9 rfl rfl)
theorem dX1_init_479 : decode cX1_init 479 = .ok (.putfield 192, 3) := dk_181 0 192 (dk_at dksX1_init_20 11 rfl rfl)
theorem dX1_init_482 : decode cX1_init 482 = .ok (.aload_n 0, 1) := dk_42 (dk_at dksX1_init_20 14 rfl rfl)
theorem dX1_init_483 : decode cX1_init 483 = .ok (.bipush 60, 2) := dk_16 60 (dk_at dksX1_init_20 15 rfl rfl)
theorem dX1_init_485 : decode cX1_init 485 = .ok (.newarray .int, 2) := dk_188_10 (dk_at dksX1_init_20 17 rfl rfl)
theorem dX1_init_487 : decode cX1_init 487 = .ok (.putfield 195, 3) := dk_181 0 195 (dk_at dksX1_init_20 19 rfl rfl)
theorem dX1_init_490 : decode cX1_init 490 = .ok (.aload_n 0, 1) := dk_42 (dk_at dksX1_init_20 22 rfl rfl)
theorem dX1_init_491 : decode cX1_init 491 = .ok (.bipush 60, 2) := dk_16 60 (dk_at dksX1_init_21 0 rfl rfl)
theorem dX1_init_493 : decode cX1_init 493 = .ok (.newarray .int, 2) := dk_188_10 (dk_at dksX1_init_21 2 rfl rfl)
theorem dX1_init_495 : decode cX1_init 495 = .ok (.putfield 197, 3) := dk_181 0 197 (dk_at dksX1_init_21 4 rfl rfl)
theorem dX1_init_498 : decode cX1_init 498 = .ok (.aload_n 0, 1) := dk_42 (dk_at dksX1_init_21 7 rfl rfl)
theorem dX1_init_499 : decode cX1_init 499 = .ok (.bipush 60, 2) := dk_16 60 (dk_at dksX1_init_21 8 rfl rfl)
theorem dX1_init_501 : decode cX1_init 501 = .ok (.newarray .int, 2) := dk_188_10 (dk_at dksX1_init_21 10 rfl rfl)
theorem dX1_init_503 : decode cX1_init 503 = .ok (.putfield 200, 3) := dk_181 0 200 (dk_at dksX1_init_21 12 rfl rfl)
theorem dX1_init_506 : decode cX1_init 506 = .ok (.aload_n 0, 1) := dk_42 (dk_at dksX1_init_21 15 rfl rfl)
theorem dX1_init_507 : decode cX1_init 507 = .ok (.new 203, 3) := dk_187 0 203 (dk_at dksX1_init_21 16 rfl rfl)
theorem dX1_init_510 : decode cX1_init 510 = .ok (.dup, 1) := dk_89 (dk_at dksX1_init_21 19 rfl rfl)
theorem dX1_init_511 : decode cX1_init 511 = .ok (.aload_n 0, 1) := dk_42 (dk_at dksX1_init_21 20 rfl rfl)
theorem dX1_init_512 : decode cX1_init 512 = .ok (.invokespecial 205, 3) := dk_183 0 205 (dk_at dksX1_init_21 21 rfl rfl)
theorem dX1_init_515 : decode cX1_init 515 = .ok (.putfield 206, 3) := dk_181 0 206 (dk_at dksX1_init_22 0 rfl rfl)
theorem dX1_init_518 : decode cX1_init 518 = .ok (.aload_n 0, 1) := dk_42 (dk_at dksX1_init_22 3 rfl rfl)
theorem dX1_init_519 : decode cX1_init 519 = .ok (.iconst 2, 1) := dk_5 (dk_at dksX1_init_22 4 rfl rfl)
theorem dX1_init_520 : decode cX1_init 520 = .ok (.anewarray 93, 3) := dk_189 0 93 (dk_at dksX1_init_22 5 rfl rfl)
theorem dX1_init_523 : decode cX1_init 523 = .ok (.putfield 210, 3) := dk_181 0 210 (dk_at dksX1_init_22 8 rfl rfl)
theorem dX1_init_526 : decode cX1_init 526 = .ok (.return_, 1) := dk_177 (dk_at dksX1_init_22 11 rfl rfl)
abbrev cX1_feed : ByteArray := prog_1_method_2_code
def yX1_feed : MethodName := ⟨RX1, "feed", "(IIIII)I"⟩
def dkwX1_feed_2 : List UInt8 := [172]
abbrev dktX1_feed_2 : List UInt8 := dkwX1_feed_2 ++ []
def dkwX1_feed_1 : List UInt8 := [182, 0, 218, 42, 29, 182, 0, 218, 42, 21, 4, 182, 0, 218, 42, 21, 5, 182, 0, 218, 42, 180, 0, 214]
abbrev dktX1_feed_1 : List UInt8 := dkwX1_feed_1 ++ dktX1_feed_2
def dkwX1_feed_0 : List UInt8 := [42, 180, 0, 214, 16, 20, 96, 17, 2, 228, 164, 0, 5, 2, 172, 42, 27, 182, 0, 218, 42, 28]
abbrev dktX1_feed_0 : List UInt8 := dkwX1_feed_0 ++ dktX1_feed_1
theorem dksX1_feed_0 : cX1_feed.data.toList.drop 0 = dktX1_feed_0 := by decide +kernel
theorem dksX1_feed_1 : cX1_feed.data.toList.drop 22 = dktX1_feed_1 := dk_seg dksX1_feed_0 22 rfl rfl
theorem dksX1_feed_2 : cX1_feed.data.toList.drop 46 = dktX1_feed_2 := dk_seg dksX1_feed_1 24 rfl rfl
theorem dX1_feed_0 : decode cX1_feed 0 = .ok (.aload_n 0, 1) := dk_42 (dk_at dksX1_feed_0 0 rfl rfl)
theorem dX1_feed_1 : decode cX1_feed 1 = .ok (.getfield 214, 3) := dk_180 0 214 (dk_at dksX1_feed_0 1 rfl rfl)
theorem dX1_feed_4 : decode cX1_feed 4 = .ok (.bipush 20, 2) := dk_16 20 (dk_at dksX1_feed_0 4 rfl rfl)
theorem dX1_feed_6 : decode cX1_feed 6 = .ok (.iadd, 1) := dk_96 (dk_at dksX1_feed_0 6 rfl rfl)
theorem dX1_feed_7 : decode cX1_feed 7 = .ok (.sipush 740, 3) := dk_17 2 228 (dk_at dksX1_feed_0 7 rfl rfl)
theorem dX1_feed_10 : decode cX1_feed 10 = .ok (.if_icmp .le 5, 3) := dk_164 0 5 (dk_at dksX1_feed_0 10 rfl rfl)
theorem dX1_feed_13 : decode cX1_feed 13 = .ok (.iconst (-1), 1) := dk_2 (dk_at dksX1_feed_0 13 rfl rfl)
theorem dX1_feed_14 : decode cX1_feed 14 = .ok (.ireturn, 1) := dk_172 (dk_at dksX1_feed_0 14 rfl rfl)
theorem dX1_feed_15 : decode cX1_feed 15 = .ok (.aload_n 0, 1) := dk_42 (dk_at dksX1_feed_0 15 rfl rfl)
theorem dX1_feed_16 : decode cX1_feed 16 = .ok (.iload_n 1, 1) := dk_27 (dk_at dksX1_feed_0 16 rfl rfl)
theorem dX1_feed_17 : decode cX1_feed 17 = .ok (.invokevirtual 218, 3) := dk_182 0 218 (dk_at dksX1_feed_0 17 rfl rfl)
theorem dX1_feed_20 : decode cX1_feed 20 = .ok (.aload_n 0, 1) := dk_42 (dk_at dksX1_feed_0 20 rfl rfl)
theorem dX1_feed_21 : decode cX1_feed 21 = .ok (.iload_n 2, 1) := dk_28 (dk_at dksX1_feed_0 21 rfl rfl)
theorem dX1_feed_22 : decode cX1_feed 22 = .ok (.invokevirtual 218, 3) := dk_182 0 218 (dk_at dksX1_feed_1 0 rfl rfl)
theorem dX1_feed_25 : decode cX1_feed 25 = .ok (.aload_n 0, 1) := dk_42 (dk_at dksX1_feed_1 3 rfl rfl)
theorem dX1_feed_26 : decode cX1_feed 26 = .ok (.iload_n 3, 1) := dk_29 (dk_at dksX1_feed_1 4 rfl rfl)
theorem dX1_feed_27 : decode cX1_feed 27 = .ok (.invokevirtual 218, 3) := dk_182 0 218 (dk_at dksX1_feed_1 5 rfl rfl)
theorem dX1_feed_30 : decode cX1_feed 30 = .ok (.aload_n 0, 1) := dk_42 (dk_at dksX1_feed_1 8 rfl rfl)
theorem dX1_feed_31 : decode cX1_feed 31 = .ok (.iload 4, 2) := dk_21 4 (dk_at dksX1_feed_1 9 rfl rfl)
theorem dX1_feed_33 : decode cX1_feed 33 = .ok (.invokevirtual 218, 3) := dk_182 0 218 (dk_at dksX1_feed_1 11 rfl rfl)
theorem dX1_feed_36 : decode cX1_feed 36 = .ok (.aload_n 0, 1) := dk_42 (dk_at dksX1_feed_1 14 rfl rfl)
theorem dX1_feed_37 : decode cX1_feed 37 = .ok (.iload 5, 2) := dk_21 5 (dk_at dksX1_feed_1 15 rfl rfl)
theorem dX1_feed_39 : decode cX1_feed 39 = .ok (.invokevirtual 218, 3) := dk_182 0 218 (dk_at dksX1_feed_1 17 rfl rfl)
theorem dX1_feed_42 : decode cX1_feed 42 = .ok (.aload_n 0, 1) := dk_42 (dk_at dksX1_feed_1 20 rfl rfl)
theorem dX1_feed_43 : decode cX1_feed 43 = .ok (.getfield 214, 3) := dk_180 0 214 (dk_at dksX1_feed_1 21 rfl rfl)
theorem dX1_feed_46 : decode cX1_feed 46 = .ok (.ireturn, 1) := dk_172 (dk_at dksX1_feed_2 0 rfl rfl)
abbrev cX1_four : ByteArray := prog_1_method_3_code
def yX1_four : MethodName := ⟨RX1, "four", "(I)V"⟩
def dkwX1_four_1 : List UInt8 := [180, 0, 214, 4, 96, 181, 0, 214, 132, 2, 248, 167, 255, 226, 177]
abbrev dktX1_four_1 : List UInt8 := dkwX1_four_1 ++ []
def dkwX1_four_0 : List UInt8 := [16, 24, 61, 28, 155, 0, 32, 42, 180, 0, 9, 42, 180, 0, 214, 27, 28, 122, 145, 84, 42, 89]
abbrev dktX1_four_0 : List UInt8 := dkwX1_four_0 ++ dktX1_four_1
theorem dksX1_four_0 : cX1_four.data.toList.drop 0 = dktX1_four_0 := by decide +kernel
theorem dksX1_four_1 : cX1_four.data.toList.drop 22 = dktX1_four_1 := dk_seg dksX1_four_0 22 rfl rfl
theorem dX1_four_0 : decode cX1_four 0 = .ok (.bipush 24, 2) := dk_16 24 (dk_at dksX1_four_0 0 rfl rfl)
theorem dX1_four_2 : decode cX1_four 2 = .ok (.istore_n 2, 1) := dk_61 (dk_at dksX1_four_0 2 rfl rfl)
theorem dX1_four_3 : decode cX1_four 3 = .ok (.iload_n 2, 1) := dk_28 (dk_at dksX1_four_0 3 rfl rfl)
theorem dX1_four_4 : decode cX1_four 4 = .ok (.ifCond .lt 32, 3) := dk_155 0 32 (dk_at dksX1_four_0 4 rfl rfl)
theorem dX1_four_7 : decode cX1_four 7 = .ok (.aload_n 0, 1) := dk_42 (dk_at dksX1_four_0 7 rfl rfl)
theorem dX1_four_8 : decode cX1_four 8 = .ok (.getfield 9, 3) := dk_180 0 9 (dk_at dksX1_four_0 8 rfl rfl)
theorem dX1_four_11 : decode cX1_four 11 = .ok (.aload_n 0, 1) := dk_42 (dk_at dksX1_four_0 11 rfl rfl)
theorem dX1_four_12 : decode cX1_four 12 = .ok (.getfield 214, 3) := dk_180 0 214 (dk_at dksX1_four_0 12 rfl rfl)
theorem dX1_four_15 : decode cX1_four 15 = .ok (.iload_n 1, 1) := dk_27 (dk_at dksX1_four_0 15 rfl rfl)
theorem dX1_four_16 : decode cX1_four 16 = .ok (.iload_n 2, 1) := dk_28 (dk_at dksX1_four_0 16 rfl rfl)
theorem dX1_four_17 : decode cX1_four 17 = .ok (.ishr, 1) := dk_122 (dk_at dksX1_four_0 17 rfl rfl)
theorem dX1_four_18 : decode cX1_four 18 = .ok (.i2b, 1) := dk_145 (dk_at dksX1_four_0 18 rfl rfl)
theorem dX1_four_19 : decode cX1_four 19 = .ok (.bastore, 1) := dk_84 (dk_at dksX1_four_0 19 rfl rfl)
theorem dX1_four_20 : decode cX1_four 20 = .ok (.aload_n 0, 1) := dk_42 (dk_at dksX1_four_0 20 rfl rfl)
theorem dX1_four_21 : decode cX1_four 21 = .ok (.dup, 1) := dk_89 (dk_at dksX1_four_0 21 rfl rfl)
theorem dX1_four_22 : decode cX1_four 22 = .ok (.getfield 214, 3) := dk_180 0 214 (dk_at dksX1_four_1 0 rfl rfl)
theorem dX1_four_25 : decode cX1_four 25 = .ok (.iconst 1, 1) := dk_4 (dk_at dksX1_four_1 3 rfl rfl)
theorem dX1_four_26 : decode cX1_four 26 = .ok (.iadd, 1) := dk_96 (dk_at dksX1_four_1 4 rfl rfl)
theorem dX1_four_27 : decode cX1_four 27 = .ok (.putfield 214, 3) := dk_181 0 214 (dk_at dksX1_four_1 5 rfl rfl)
theorem dX1_four_30 : decode cX1_four 30 = .ok (.iinc 2 (-8), 3) := dk_132 2 248 (dk_at dksX1_four_1 8 rfl rfl)
theorem dX1_four_33 : decode cX1_four 33 = .ok (.goto (-30), 3) := dk_167 255 226 (dk_at dksX1_four_1 11 rfl rfl)
theorem dX1_four_36 : decode cX1_four 36 = .ok (.return_, 1) := dk_177 (dk_at dksX1_four_1 14 rfl rfl)
abbrev cX1_end : ByteArray := prog_1_method_4_code
def yX1_end : MethodName := ⟨RX1, "end", "(I)Z"⟩
def dkwX1_end_0 : List UInt8 := [27, 155, 0, 11, 27, 42, 180, 0, 214, 164, 0, 5, 3, 172, 42, 27, 181, 0, 214, 4, 172]
abbrev dktX1_end_0 : List UInt8 := dkwX1_end_0 ++ []
theorem dksX1_end_0 : cX1_end.data.toList.drop 0 = dktX1_end_0 := by decide +kernel
theorem dX1_end_0 : decode cX1_end 0 = .ok (.iload_n 1, 1) := dk_27 (dk_at dksX1_end_0 0 rfl rfl)
theorem dX1_end_1 : decode cX1_end 1 = .ok (.ifCond .lt 11, 3) := dk_155 0 11 (dk_at dksX1_end_0 1 rfl rfl)
theorem dX1_end_4 : decode cX1_end 4 = .ok (.iload_n 1, 1) := dk_27 (dk_at dksX1_end_0 4 rfl rfl)
theorem dX1_end_5 : decode cX1_end 5 = .ok (.aload_n 0, 1) := dk_42 (dk_at dksX1_end_0 5 rfl rfl)
theorem dX1_end_6 : decode cX1_end 6 = .ok (.getfield 214, 3) := dk_180 0 214 (dk_at dksX1_end_0 6 rfl rfl)
theorem dX1_end_9 : decode cX1_end 9 = .ok (.if_icmp .le 5, 3) := dk_164 0 5 (dk_at dksX1_end_0 9 rfl rfl)
theorem dX1_end_12 : decode cX1_end 12 = .ok (.iconst 0, 1) := dk_3 (dk_at dksX1_end_0 12 rfl rfl)
theorem dX1_end_13 : decode cX1_end 13 = .ok (.ireturn, 1) := dk_172 (dk_at dksX1_end_0 13 rfl rfl)
theorem dX1_end_14 : decode cX1_end 14 = .ok (.aload_n 0, 1) := dk_42 (dk_at dksX1_end_0 14 rfl rfl)
theorem dX1_end_15 : decode cX1_end 15 = .ok (.iload_n 1, 1) := dk_27 (dk_at dksX1_end_0 15 rfl rfl)
theorem dX1_end_16 : decode cX1_end 16 = .ok (.putfield 214, 3) := dk_181 0 214 (dk_at dksX1_end_0 16 rfl rfl)
theorem dX1_end_19 : decode cX1_end 19 = .ok (.iconst 1, 1) := dk_4 (dk_at dksX1_end_0 19 rfl rfl)
theorem dX1_end_20 : decode cX1_end 20 = .ok (.ireturn, 1) := dk_172 (dk_at dksX1_end_0 20 rfl rfl)
abbrev cX1_yard : ByteArray := prog_1_method_10_code
def yX1_yard : MethodName := ⟨RX1, "yard", "()I"⟩
def dkwX1_yard_3 : List UInt8 := [180, 1, 3, 100, 172]
abbrev dktX1_yard_3 : List UInt8 := dkwX1_yard_3 ++ []
def dkwX1_yard_2 : List UInt8 := [181, 0, 248, 42, 180, 0, 96, 1, 181, 0, 252, 28, 172, 77, 42, 44, 180, 1, 0, 181, 0, 231, 2, 44]
abbrev dktX1_yard_2 : List UInt8 := dkwX1_yard_2 ++ dktX1_yard_3
def dkwX1_yard_1 : List UInt8 := [182, 0, 237, 61, 42, 180, 0, 96, 43, 181, 0, 241, 42, 180, 0, 96, 187, 0, 245, 89, 183, 0, 247]
abbrev dktX1_yard_1 : List UInt8 := dkwX1_yard_1 ++ dktX1_yard_2
def dkwX1_yard_0 : List UInt8 := [42, 182, 0, 228, 42, 3, 181, 0, 231, 187, 0, 234, 89, 183, 0, 236, 76, 42, 180, 0, 105, 43]
abbrev dktX1_yard_0 : List UInt8 := dkwX1_yard_0 ++ dktX1_yard_1
theorem dksX1_yard_0 : cX1_yard.data.toList.drop 0 = dktX1_yard_0 := by decide +kernel
theorem dksX1_yard_1 : cX1_yard.data.toList.drop 22 = dktX1_yard_1 := dk_seg dksX1_yard_0 22 rfl rfl
theorem dksX1_yard_2 : cX1_yard.data.toList.drop 45 = dktX1_yard_2 := dk_seg dksX1_yard_1 23 rfl rfl
theorem dksX1_yard_3 : cX1_yard.data.toList.drop 69 = dktX1_yard_3 := dk_seg dksX1_yard_2 24 rfl rfl
theorem dX1_yard_0 : decode cX1_yard 0 = .ok (.aload_n 0, 1) := dk_42 (dk_at dksX1_yard_0 0 rfl rfl)
theorem dX1_yard_1 : decode cX1_yard 1 = .ok (.invokevirtual 228, 3) := dk_182 0 228 (dk_at dksX1_yard_0 1 rfl rfl)
theorem dX1_yard_4 : decode cX1_yard 4 = .ok (.aload_n 0, 1) := dk_42 (dk_at dksX1_yard_0 4 rfl rfl)
theorem dX1_yard_5 : decode cX1_yard 5 = .ok (.iconst 0, 1) := dk_3 (dk_at dksX1_yard_0 5 rfl rfl)
theorem dX1_yard_6 : decode cX1_yard 6 = .ok (.putfield 231, 3) := dk_181 0 231 (dk_at dksX1_yard_0 6 rfl rfl)
theorem dX1_yard_9 : decode cX1_yard 9 = .ok (.new 234, 3) := dk_187 0 234 (dk_at dksX1_yard_0 9 rfl rfl)
theorem dX1_yard_12 : decode cX1_yard 12 = .ok (.dup, 1) := dk_89 (dk_at dksX1_yard_0 12 rfl rfl)
theorem dX1_yard_13 : decode cX1_yard 13 = .ok (.invokespecial 236, 3) := dk_183 0 236 (dk_at dksX1_yard_0 13 rfl rfl)
theorem dX1_yard_16 : decode cX1_yard 16 = .ok (.astore_n 1, 1) := dk_76 (dk_at dksX1_yard_0 16 rfl rfl)
theorem dX1_yard_17 : decode cX1_yard 17 = .ok (.aload_n 0, 1) := dk_42 (dk_at dksX1_yard_0 17 rfl rfl)
theorem dX1_yard_18 : decode cX1_yard 18 = .ok (.getfield 105, 3) := dk_180 0 105 (dk_at dksX1_yard_0 18 rfl rfl)
theorem dX1_yard_21 : decode cX1_yard 21 = .ok (.aload_n 1, 1) := dk_43 (dk_at dksX1_yard_0 21 rfl rfl)
theorem dX1_yard_22 : decode cX1_yard 22 = .ok (.invokevirtual 237, 3) := dk_182 0 237 (dk_at dksX1_yard_1 0 rfl rfl)
theorem dX1_yard_25 : decode cX1_yard 25 = .ok (.istore_n 2, 1) := dk_61 (dk_at dksX1_yard_1 3 rfl rfl)
theorem dX1_yard_26 : decode cX1_yard 26 = .ok (.aload_n 0, 1) := dk_42 (dk_at dksX1_yard_1 4 rfl rfl)
theorem dX1_yard_27 : decode cX1_yard 27 = .ok (.getfield 96, 3) := dk_180 0 96 (dk_at dksX1_yard_1 5 rfl rfl)
theorem dX1_yard_30 : decode cX1_yard 30 = .ok (.aload_n 1, 1) := dk_43 (dk_at dksX1_yard_1 8 rfl rfl)
theorem dX1_yard_31 : decode cX1_yard 31 = .ok (.putfield 241, 3) := dk_181 0 241 (dk_at dksX1_yard_1 9 rfl rfl)
theorem dX1_yard_34 : decode cX1_yard 34 = .ok (.aload_n 0, 1) := dk_42 (dk_at dksX1_yard_1 12 rfl rfl)
theorem dX1_yard_35 : decode cX1_yard 35 = .ok (.getfield 96, 3) := dk_180 0 96 (dk_at dksX1_yard_1 13 rfl rfl)
theorem dX1_yard_38 : decode cX1_yard 38 = .ok (.new 245, 3) := dk_187 0 245 (dk_at dksX1_yard_1 16 rfl rfl)
theorem dX1_yard_41 : decode cX1_yard 41 = .ok (.dup, 1) := dk_89 (dk_at dksX1_yard_1 19 rfl rfl)
theorem dX1_yard_42 : decode cX1_yard 42 = .ok (.invokespecial 247, 3) := dk_183 0 247 (dk_at dksX1_yard_1 20 rfl rfl)
theorem dX1_yard_45 : decode cX1_yard 45 = .ok (.putfield 248, 3) := dk_181 0 248 (dk_at dksX1_yard_2 0 rfl rfl)
theorem dX1_yard_48 : decode cX1_yard 48 = .ok (.aload_n 0, 1) := dk_42 (dk_at dksX1_yard_2 3 rfl rfl)
theorem dX1_yard_49 : decode cX1_yard 49 = .ok (.getfield 96, 3) := dk_180 0 96 (dk_at dksX1_yard_2 4 rfl rfl)
theorem dX1_yard_52 : decode cX1_yard 52 = .ok (.aconst_null, 1) := dk_1 (dk_at dksX1_yard_2 7 rfl rfl)
theorem dX1_yard_53 : decode cX1_yard 53 = .ok (.putfield 252, 3) := dk_181 0 252 (dk_at dksX1_yard_2 8 rfl rfl)
theorem dX1_yard_56 : decode cX1_yard 56 = .ok (.iload_n 2, 1) := dk_28 (dk_at dksX1_yard_2 11 rfl rfl)
theorem dX1_yard_57 : decode cX1_yard 57 = .ok (.ireturn, 1) := dk_172 (dk_at dksX1_yard_2 12 rfl rfl)
theorem dX1_yard_58 : decode cX1_yard 58 = .ok (.astore_n 2, 1) := dk_77 (dk_at dksX1_yard_2 13 rfl rfl)
theorem dX1_yard_59 : decode cX1_yard 59 = .ok (.aload_n 0, 1) := dk_42 (dk_at dksX1_yard_2 14 rfl rfl)
theorem dX1_yard_60 : decode cX1_yard 60 = .ok (.aload_n 2, 1) := dk_44 (dk_at dksX1_yard_2 15 rfl rfl)
theorem dX1_yard_61 : decode cX1_yard 61 = .ok (.getfield 256, 3) := dk_180 1 0 (dk_at dksX1_yard_2 16 rfl rfl)
theorem dX1_yard_64 : decode cX1_yard 64 = .ok (.putfield 231, 3) := dk_181 0 231 (dk_at dksX1_yard_2 19 rfl rfl)
theorem dX1_yard_67 : decode cX1_yard 67 = .ok (.iconst (-1), 1) := dk_2 (dk_at dksX1_yard_2 22 rfl rfl)
theorem dX1_yard_68 : decode cX1_yard 68 = .ok (.aload_n 2, 1) := dk_44 (dk_at dksX1_yard_2 23 rfl rfl)
theorem dX1_yard_69 : decode cX1_yard 69 = .ok (.getfield 259, 3) := dk_180 1 3 (dk_at dksX1_yard_3 0 rfl rfl)
theorem dX1_yard_72 : decode cX1_yard 72 = .ok (.isub, 1) := dk_100 (dk_at dksX1_yard_3 3 rfl rfl)
theorem dX1_yard_73 : decode cX1_yard 73 = .ok (.ireturn, 1) := dk_172 (dk_at dksX1_yard_3 4 rfl rfl)
abbrev cX1_taken : ByteArray := prog_1_method_5_code
def yX1_taken : MethodName := ⟨RX1, "taken", "()V"⟩
def dkwX1_taken_0 : List UInt8 := [42, 42, 180, 0, 214, 181, 0, 222, 42, 3, 181, 0, 214, 177]
abbrev dktX1_taken_0 : List UInt8 := dkwX1_taken_0 ++ []
theorem dksX1_taken_0 : cX1_taken.data.toList.drop 0 = dktX1_taken_0 := by decide +kernel
theorem dX1_taken_0 : decode cX1_taken 0 = .ok (.aload_n 0, 1) := dk_42 (dk_at dksX1_taken_0 0 rfl rfl)
theorem dX1_taken_1 : decode cX1_taken 1 = .ok (.aload_n 0, 1) := dk_42 (dk_at dksX1_taken_0 1 rfl rfl)
theorem dX1_taken_2 : decode cX1_taken 2 = .ok (.getfield 214, 3) := dk_180 0 214 (dk_at dksX1_taken_0 2 rfl rfl)
theorem dX1_taken_5 : decode cX1_taken 5 = .ok (.putfield 222, 3) := dk_181 0 222 (dk_at dksX1_taken_0 5 rfl rfl)
theorem dX1_taken_8 : decode cX1_taken 8 = .ok (.aload_n 0, 1) := dk_42 (dk_at dksX1_taken_0 8 rfl rfl)
theorem dX1_taken_9 : decode cX1_taken 9 = .ok (.iconst 0, 1) := dk_3 (dk_at dksX1_taken_0 9 rfl rfl)
theorem dX1_taken_10 : decode cX1_taken 10 = .ok (.putfield 214, 3) := dk_181 0 214 (dk_at dksX1_taken_0 10 rfl rfl)
theorem dX1_taken_13 : decode cX1_taken 13 = .ok (.return_, 1) := dk_177 (dk_at dksX1_taken_0 13 rfl rfl)
abbrev cX1_isIn : ByteArray := prog_1_method_7_code
def yX1_isIn : MethodName := ⟨RX1, "isIn", "(III)Z"⟩
def dkwX1_isIn_0 : List UInt8 := [26, 27, 161, 0, 12, 26, 28, 163, 0, 7, 4, 167, 0, 4, 3, 172]
abbrev dktX1_isIn_0 : List UInt8 := dkwX1_isIn_0 ++ []
theorem dksX1_isIn_0 : cX1_isIn.data.toList.drop 0 = dktX1_isIn_0 := by decide +kernel
theorem dX1_isIn_0 : decode cX1_isIn 0 = .ok (.iload_n 0, 1) := dk_26 (dk_at dksX1_isIn_0 0 rfl rfl)
theorem dX1_isIn_1 : decode cX1_isIn 1 = .ok (.iload_n 1, 1) := dk_27 (dk_at dksX1_isIn_0 1 rfl rfl)
theorem dX1_isIn_2 : decode cX1_isIn 2 = .ok (.if_icmp .lt 12, 3) := dk_161 0 12 (dk_at dksX1_isIn_0 2 rfl rfl)
theorem dX1_isIn_5 : decode cX1_isIn 5 = .ok (.iload_n 0, 1) := dk_26 (dk_at dksX1_isIn_0 5 rfl rfl)
theorem dX1_isIn_6 : decode cX1_isIn 6 = .ok (.iload_n 2, 1) := dk_28 (dk_at dksX1_isIn_0 6 rfl rfl)
theorem dX1_isIn_7 : decode cX1_isIn 7 = .ok (.if_icmp .gt 7, 3) := dk_163 0 7 (dk_at dksX1_isIn_0 7 rfl rfl)
theorem dX1_isIn_10 : decode cX1_isIn 10 = .ok (.iconst 1, 1) := dk_4 (dk_at dksX1_isIn_0 10 rfl rfl)
theorem dX1_isIn_11 : decode cX1_isIn 11 = .ok (.goto 4, 3) := dk_167 0 4 (dk_at dksX1_isIn_0 11 rfl rfl)
theorem dX1_isIn_14 : decode cX1_isIn 14 = .ok (.iconst 0, 1) := dk_3 (dk_at dksX1_isIn_0 14 rfl rfl)
theorem dX1_isIn_15 : decode cX1_isIn 15 = .ok (.ireturn, 1) := dk_172 (dk_at dksX1_isIn_0 15 rfl rfl)
abbrev cX1_fault : ByteArray := prog_1_method_11_code
def yX1_fault : MethodName := ⟨RX1, "fault", "()I"⟩
theorem dX1_fault_0 : decode cX1_fault 0 = .ok (.aload_n 0, 1) := by decide +kernel
theorem dX1_fault_1 : decode cX1_fault 1 = .ok (.getfield 231, 3) := by decide +kernel
theorem dX1_fault_4 : decode cX1_fault 4 = .ok (.ireturn, 1) := by decide +kernel
abbrev cX1_plan : ByteArray := prog_1_method_12_code
def yX1_plan : MethodName := ⟨RX1, "plan", "()I"⟩
def dkwX1_plan_2 : List UInt8 := [100, 172]
abbrev dktX1_plan_2 : List UInt8 := dkwX1_plan_2 ++ []
def dkwX1_plan_1 : List UInt8 := [180, 0, 96, 180, 0, 248, 180, 1, 9, 172, 76, 42, 43, 180, 1, 0, 181, 0, 231, 2, 43, 180, 1, 3]
abbrev dktX1_plan_1 : List UInt8 := dkwX1_plan_1 ++ dktX1_plan_2
def dkwX1_plan_0 : List UInt8 := [42, 182, 0, 228, 42, 3, 181, 0, 231, 42, 180, 0, 96, 42, 180, 0, 112, 182, 1, 6, 181, 0, 248, 42]
abbrev dktX1_plan_0 : List UInt8 := dkwX1_plan_0 ++ dktX1_plan_1
theorem dksX1_plan_0 : cX1_plan.data.toList.drop 0 = dktX1_plan_0 := by decide +kernel
theorem dksX1_plan_1 : cX1_plan.data.toList.drop 24 = dktX1_plan_1 := dk_seg dksX1_plan_0 24 rfl rfl
theorem dksX1_plan_2 : cX1_plan.data.toList.drop 48 = dktX1_plan_2 := dk_seg dksX1_plan_1 24 rfl rfl
theorem dX1_plan_0 : decode cX1_plan 0 = .ok (.aload_n 0, 1) := dk_42 (dk_at dksX1_plan_0 0 rfl rfl)
theorem dX1_plan_1 : decode cX1_plan 1 = .ok (.invokevirtual 228, 3) := dk_182 0 228 (dk_at dksX1_plan_0 1 rfl rfl)
theorem dX1_plan_4 : decode cX1_plan 4 = .ok (.aload_n 0, 1) := dk_42 (dk_at dksX1_plan_0 4 rfl rfl)
theorem dX1_plan_5 : decode cX1_plan 5 = .ok (.iconst 0, 1) := dk_3 (dk_at dksX1_plan_0 5 rfl rfl)
theorem dX1_plan_6 : decode cX1_plan 6 = .ok (.putfield 231, 3) := dk_181 0 231 (dk_at dksX1_plan_0 6 rfl rfl)
theorem dX1_plan_9 : decode cX1_plan 9 = .ok (.aload_n 0, 1) := dk_42 (dk_at dksX1_plan_0 9 rfl rfl)
theorem dX1_plan_10 : decode cX1_plan 10 = .ok (.getfield 96, 3) := dk_180 0 96 (dk_at dksX1_plan_0 10 rfl rfl)
theorem dX1_plan_13 : decode cX1_plan 13 = .ok (.aload_n 0, 1) := dk_42 (dk_at dksX1_plan_0 13 rfl rfl)
theorem dX1_plan_14 : decode cX1_plan 14 = .ok (.getfield 112, 3) := dk_180 0 112 (dk_at dksX1_plan_0 14 rfl rfl)
theorem dX1_plan_17 : decode cX1_plan 17 = .ok (.invokevirtual 262, 3) := dk_182 1 6 (dk_at dksX1_plan_0 17 rfl rfl)
theorem dX1_plan_20 : decode cX1_plan 20 = .ok (.putfield 248, 3) := dk_181 0 248 (dk_at dksX1_plan_0 20 rfl rfl)
theorem dX1_plan_23 : decode cX1_plan 23 = .ok (.aload_n 0, 1) := dk_42 (dk_at dksX1_plan_0 23 rfl rfl)
theorem dX1_plan_24 : decode cX1_plan 24 = .ok (.getfield 96, 3) := dk_180 0 96 (dk_at dksX1_plan_1 0 rfl rfl)
theorem dX1_plan_27 : decode cX1_plan 27 = .ok (.getfield 248, 3) := dk_180 0 248 (dk_at dksX1_plan_1 3 rfl rfl)
theorem dX1_plan_30 : decode cX1_plan 30 = .ok (.getfield 265, 3) := dk_180 1 9 (dk_at dksX1_plan_1 6 rfl rfl)
theorem dX1_plan_33 : decode cX1_plan 33 = .ok (.ireturn, 1) := dk_172 (dk_at dksX1_plan_1 9 rfl rfl)
theorem dX1_plan_34 : decode cX1_plan 34 = .ok (.astore_n 1, 1) := dk_76 (dk_at dksX1_plan_1 10 rfl rfl)
theorem dX1_plan_35 : decode cX1_plan 35 = .ok (.aload_n 0, 1) := dk_42 (dk_at dksX1_plan_1 11 rfl rfl)
theorem dX1_plan_36 : decode cX1_plan 36 = .ok (.aload_n 1, 1) := dk_43 (dk_at dksX1_plan_1 12 rfl rfl)
theorem dX1_plan_37 : decode cX1_plan 37 = .ok (.getfield 256, 3) := dk_180 1 0 (dk_at dksX1_plan_1 13 rfl rfl)
theorem dX1_plan_40 : decode cX1_plan 40 = .ok (.putfield 231, 3) := dk_181 0 231 (dk_at dksX1_plan_1 16 rfl rfl)
theorem dX1_plan_43 : decode cX1_plan 43 = .ok (.iconst (-1), 1) := dk_2 (dk_at dksX1_plan_1 19 rfl rfl)
theorem dX1_plan_44 : decode cX1_plan 44 = .ok (.aload_n 1, 1) := dk_43 (dk_at dksX1_plan_1 20 rfl rfl)
theorem dX1_plan_45 : decode cX1_plan 45 = .ok (.getfield 259, 3) := dk_180 1 3 (dk_at dksX1_plan_1 21 rfl rfl)
theorem dX1_plan_48 : decode cX1_plan 48 = .ok (.isub, 1) := dk_100 (dk_at dksX1_plan_2 0 rfl rfl)
theorem dX1_plan_49 : decode cX1_plan 49 = .ok (.ireturn, 1) := dk_172 (dk_at dksX1_plan_2 1 rfl rfl)
abbrev cX1_row : ByteArray := prog_1_method_18_code
def yX1_row : MethodName := ⟨RX1, "row", "(I)I"⟩
def dkwX1_row_3 : List UInt8 := [182, 1, 74, 42, 180, 0, 119, 180, 1, 77, 172]
abbrev dktX1_row_3 : List UInt8 := dkwX1_row_3 ++ []
def dkwX1_row_2 : List UInt8 := [42, 180, 0, 96, 180, 0, 241, 180, 1, 65, 182, 1, 67, 42, 180, 0, 119, 27, 182, 1, 71, 87, 42]
abbrev dktX1_row_2 : List UInt8 := dkwX1_row_2 ++ dktX1_row_3
def dkwX1_row_1 : List UInt8 := [154, 0, 5, 2, 172, 42, 180, 0, 119, 42, 180, 0, 96, 180, 0, 241, 42, 180, 0, 135, 42, 180, 1, 52]
abbrev dktX1_row_1 : List UInt8 := dkwX1_row_1 ++ dktX1_row_2
def dkwX1_row_0 : List UInt8 := [42, 182, 0, 228, 42, 5, 16, 12, 42, 180, 0, 222, 182, 1, 59, 153, 0, 10, 27, 184, 1, 62]
abbrev dktX1_row_0 : List UInt8 := dkwX1_row_0 ++ dktX1_row_1
theorem dksX1_row_0 : cX1_row.data.toList.drop 0 = dktX1_row_0 := by decide +kernel
theorem dksX1_row_1 : cX1_row.data.toList.drop 22 = dktX1_row_1 := dk_seg dksX1_row_0 22 rfl rfl
theorem dksX1_row_2 : cX1_row.data.toList.drop 46 = dktX1_row_2 := dk_seg dksX1_row_1 24 rfl rfl
theorem dksX1_row_3 : cX1_row.data.toList.drop 69 = dktX1_row_3 := dk_seg dksX1_row_2 23 rfl rfl
theorem dX1_row_0 : decode cX1_row 0 = .ok (.aload_n 0, 1) := dk_42 (dk_at dksX1_row_0 0 rfl rfl)
theorem dX1_row_1 : decode cX1_row 1 = .ok (.invokevirtual 228, 3) := dk_182 0 228 (dk_at dksX1_row_0 1 rfl rfl)
theorem dX1_row_4 : decode cX1_row 4 = .ok (.aload_n 0, 1) := dk_42 (dk_at dksX1_row_0 4 rfl rfl)
theorem dX1_row_5 : decode cX1_row 5 = .ok (.iconst 2, 1) := dk_5 (dk_at dksX1_row_0 5 rfl rfl)
theorem dX1_row_6 : decode cX1_row 6 = .ok (.bipush 12, 2) := dk_16 12 (dk_at dksX1_row_0 6 rfl rfl)
theorem dX1_row_8 : decode cX1_row 8 = .ok (.aload_n 0, 1) := dk_42 (dk_at dksX1_row_0 8 rfl rfl)
theorem dX1_row_9 : decode cX1_row 9 = .ok (.getfield 222, 3) := dk_180 0 222 (dk_at dksX1_row_0 9 rfl rfl)
theorem dX1_row_12 : decode cX1_row 12 = .ok (.invokevirtual 315, 3) := dk_182 1 59 (dk_at dksX1_row_0 12 rfl rfl)
theorem dX1_row_15 : decode cX1_row 15 = .ok (.ifCond .eq 10, 3) := dk_153 0 10 (dk_at dksX1_row_0 15 rfl rfl)
theorem dX1_row_18 : decode cX1_row 18 = .ok (.iload_n 1, 1) := dk_27 (dk_at dksX1_row_0 18 rfl rfl)
theorem dX1_row_19 : decode cX1_row 19 = .ok (.invokestatic 318, 3) := dk_184 1 62 (dk_at dksX1_row_0 19 rfl rfl)
theorem dX1_row_22 : decode cX1_row 22 = .ok (.ifCond .ne 5, 3) := dk_154 0 5 (dk_at dksX1_row_1 0 rfl rfl)
theorem dX1_row_25 : decode cX1_row 25 = .ok (.iconst (-1), 1) := dk_2 (dk_at dksX1_row_1 3 rfl rfl)
theorem dX1_row_26 : decode cX1_row 26 = .ok (.ireturn, 1) := dk_172 (dk_at dksX1_row_1 4 rfl rfl)
theorem dX1_row_27 : decode cX1_row 27 = .ok (.aload_n 0, 1) := dk_42 (dk_at dksX1_row_1 5 rfl rfl)
theorem dX1_row_28 : decode cX1_row 28 = .ok (.getfield 119, 3) := dk_180 0 119 (dk_at dksX1_row_1 6 rfl rfl)
theorem dX1_row_31 : decode cX1_row 31 = .ok (.aload_n 0, 1) := dk_42 (dk_at dksX1_row_1 9 rfl rfl)
theorem dX1_row_32 : decode cX1_row 32 = .ok (.getfield 96, 3) := dk_180 0 96 (dk_at dksX1_row_1 10 rfl rfl)
theorem dX1_row_35 : decode cX1_row 35 = .ok (.getfield 241, 3) := dk_180 0 241 (dk_at dksX1_row_1 13 rfl rfl)
theorem dX1_row_38 : decode cX1_row 38 = .ok (.aload_n 0, 1) := dk_42 (dk_at dksX1_row_1 16 rfl rfl)
theorem dX1_row_39 : decode cX1_row 39 = .ok (.getfield 135, 3) := dk_180 0 135 (dk_at dksX1_row_1 17 rfl rfl)
theorem dX1_row_42 : decode cX1_row 42 = .ok (.aload_n 0, 1) := dk_42 (dk_at dksX1_row_1 20 rfl rfl)
theorem dX1_row_43 : decode cX1_row 43 = .ok (.getfield 308, 3) := dk_180 1 52 (dk_at dksX1_row_1 21 rfl rfl)
theorem dX1_row_46 : decode cX1_row 46 = .ok (.aload_n 0, 1) := dk_42 (dk_at dksX1_row_2 0 rfl rfl)
theorem dX1_row_47 : decode cX1_row 47 = .ok (.getfield 96, 3) := dk_180 0 96 (dk_at dksX1_row_2 1 rfl rfl)
theorem dX1_row_50 : decode cX1_row 50 = .ok (.getfield 241, 3) := dk_180 0 241 (dk_at dksX1_row_2 4 rfl rfl)
theorem dX1_row_53 : decode cX1_row 53 = .ok (.getfield 321, 3) := dk_180 1 65 (dk_at dksX1_row_2 7 rfl rfl)
theorem dX1_row_56 : decode cX1_row 56 = .ok (.invokevirtual 323, 3) := dk_182 1 67 (dk_at dksX1_row_2 10 rfl rfl)
theorem dX1_row_59 : decode cX1_row 59 = .ok (.aload_n 0, 1) := dk_42 (dk_at dksX1_row_2 13 rfl rfl)
theorem dX1_row_60 : decode cX1_row 60 = .ok (.getfield 119, 3) := dk_180 0 119 (dk_at dksX1_row_2 14 rfl rfl)
theorem dX1_row_63 : decode cX1_row 63 = .ok (.iload_n 1, 1) := dk_27 (dk_at dksX1_row_2 17 rfl rfl)
theorem dX1_row_64 : decode cX1_row 64 = .ok (.invokevirtual 327, 3) := dk_182 1 71 (dk_at dksX1_row_2 18 rfl rfl)
theorem dX1_row_67 : decode cX1_row 67 = .ok (.pop, 1) := dk_87 (dk_at dksX1_row_2 21 rfl rfl)
theorem dX1_row_68 : decode cX1_row 68 = .ok (.aload_n 0, 1) := dk_42 (dk_at dksX1_row_2 22 rfl rfl)
theorem dX1_row_69 : decode cX1_row 69 = .ok (.invokevirtual 330, 3) := dk_182 1 74 (dk_at dksX1_row_3 0 rfl rfl)
theorem dX1_row_72 : decode cX1_row 72 = .ok (.aload_n 0, 1) := dk_42 (dk_at dksX1_row_3 3 rfl rfl)
theorem dX1_row_73 : decode cX1_row 73 = .ok (.getfield 119, 3) := dk_180 0 119 (dk_at dksX1_row_3 4 rfl rfl)
theorem dX1_row_76 : decode cX1_row 76 = .ok (.getfield 333, 3) := dk_180 1 77 (dk_at dksX1_row_3 7 rfl rfl)
theorem dX1_row_79 : decode cX1_row 79 = .ok (.ireturn, 1) := dk_172 (dk_at dksX1_row_3 10 rfl rfl)
abbrev cX1_areAsked : ByteArray := prog_1_method_16_code
def yX1_areAsked : MethodName := ⟨RX1, "areAsked", "(III)Z"⟩
def dkwX1_areAsked_4 : List UInt8 := [167, 255, 183, 4, 172]
abbrev dktX1_areAsked_4 : List UInt8 := dkwX1_areAsked_4 ++ []
def dkwX1_areAsked_3 : List UInt8 := [46, 42, 180, 0, 135, 21, 4, 46, 160, 0, 5, 3, 172, 132, 5, 1, 167, 255, 227, 132, 4, 1]
abbrev dktX1_areAsked_3 : List UInt8 := dkwX1_areAsked_3 ++ dktX1_areAsked_4
def dkwX1_areAsked_2 : List UInt8 := [182, 1, 19, 154, 0, 5, 3, 172, 3, 54, 5, 21, 5, 21, 4, 162, 0, 28, 42, 180, 0, 135, 21, 5]
abbrev dktX1_areAsked_2 : List UInt8 := dkwX1_areAsked_2 ++ dktX1_areAsked_3
def dkwX1_areAsked_1 : List UInt8 := [162, 0, 73, 42, 180, 0, 135, 21, 4, 42, 21, 4, 182, 1, 55, 79, 42, 42, 180, 0, 135, 21, 4, 46]
abbrev dktX1_areAsked_1 : List UInt8 := dkwX1_areAsked_1 ++ dktX1_areAsked_2
def dkwX1_areAsked_0 : List UInt8 := [29, 27, 28, 184, 1, 15, 154, 0, 5, 3, 172, 42, 29, 181, 1, 52, 3, 54, 4, 21, 4, 29]
abbrev dktX1_areAsked_0 : List UInt8 := dkwX1_areAsked_0 ++ dktX1_areAsked_1
theorem dksX1_areAsked_0 : cX1_areAsked.data.toList.drop 0 = dktX1_areAsked_0 := by decide +kernel
theorem dksX1_areAsked_1 : cX1_areAsked.data.toList.drop 22 = dktX1_areAsked_1 := dk_seg dksX1_areAsked_0 22 rfl rfl
theorem dksX1_areAsked_2 : cX1_areAsked.data.toList.drop 46 = dktX1_areAsked_2 := dk_seg dksX1_areAsked_1 24 rfl rfl
theorem dksX1_areAsked_3 : cX1_areAsked.data.toList.drop 70 = dktX1_areAsked_3 := dk_seg dksX1_areAsked_2 24 rfl rfl
theorem dksX1_areAsked_4 : cX1_areAsked.data.toList.drop 92 = dktX1_areAsked_4 := dk_seg dksX1_areAsked_3 22 rfl rfl
theorem dX1_areAsked_0 : decode cX1_areAsked 0 = .ok (.iload_n 3, 1) := dk_29 (dk_at dksX1_areAsked_0 0 rfl rfl)
theorem dX1_areAsked_1 : decode cX1_areAsked 1 = .ok (.iload_n 1, 1) := dk_27 (dk_at dksX1_areAsked_0 1 rfl rfl)
theorem dX1_areAsked_2 : decode cX1_areAsked 2 = .ok (.iload_n 2, 1) := dk_28 (dk_at dksX1_areAsked_0 2 rfl rfl)
theorem dX1_areAsked_3 : decode cX1_areAsked 3 = .ok (.invokestatic 271, 3) := dk_184 1 15 (dk_at dksX1_areAsked_0 3 rfl rfl)
theorem dX1_areAsked_6 : decode cX1_areAsked 6 = .ok (.ifCond .ne 5, 3) := dk_154 0 5 (dk_at dksX1_areAsked_0 6 rfl rfl)
theorem dX1_areAsked_9 : decode cX1_areAsked 9 = .ok (.iconst 0, 1) := dk_3 (dk_at dksX1_areAsked_0 9 rfl rfl)
theorem dX1_areAsked_10 : decode cX1_areAsked 10 = .ok (.ireturn, 1) := dk_172 (dk_at dksX1_areAsked_0 10 rfl rfl)
theorem dX1_areAsked_11 : decode cX1_areAsked 11 = .ok (.aload_n 0, 1) := dk_42 (dk_at dksX1_areAsked_0 11 rfl rfl)
theorem dX1_areAsked_12 : decode cX1_areAsked 12 = .ok (.iload_n 3, 1) := dk_29 (dk_at dksX1_areAsked_0 12 rfl rfl)
theorem dX1_areAsked_13 : decode cX1_areAsked 13 = .ok (.putfield 308, 3) := dk_181 1 52 (dk_at dksX1_areAsked_0 13 rfl rfl)
theorem dX1_areAsked_16 : decode cX1_areAsked 16 = .ok (.iconst 0, 1) := dk_3 (dk_at dksX1_areAsked_0 16 rfl rfl)
theorem dX1_areAsked_17 : decode cX1_areAsked 17 = .ok (.istore 4, 2) := dk_54 4 (dk_at dksX1_areAsked_0 17 rfl rfl)
theorem dX1_areAsked_19 : decode cX1_areAsked 19 = .ok (.iload 4, 2) := dk_21 4 (dk_at dksX1_areAsked_0 19 rfl rfl)
theorem dX1_areAsked_21 : decode cX1_areAsked 21 = .ok (.iload_n 3, 1) := dk_29 (dk_at dksX1_areAsked_0 21 rfl rfl)
theorem dX1_areAsked_22 : decode cX1_areAsked 22 = .ok (.if_icmp .ge 73, 3) := dk_162 0 73 (dk_at dksX1_areAsked_1 0 rfl rfl)
theorem dX1_areAsked_25 : decode cX1_areAsked 25 = .ok (.aload_n 0, 1) := dk_42 (dk_at dksX1_areAsked_1 3 rfl rfl)
theorem dX1_areAsked_26 : decode cX1_areAsked 26 = .ok (.getfield 135, 3) := dk_180 0 135 (dk_at dksX1_areAsked_1 4 rfl rfl)
theorem dX1_areAsked_29 : decode cX1_areAsked 29 = .ok (.iload 4, 2) := dk_21 4 (dk_at dksX1_areAsked_1 7 rfl rfl)
theorem dX1_areAsked_31 : decode cX1_areAsked 31 = .ok (.aload_n 0, 1) := dk_42 (dk_at dksX1_areAsked_1 9 rfl rfl)
theorem dX1_areAsked_32 : decode cX1_areAsked 32 = .ok (.iload 4, 2) := dk_21 4 (dk_at dksX1_areAsked_1 10 rfl rfl)
theorem dX1_areAsked_34 : decode cX1_areAsked 34 = .ok (.invokevirtual 311, 3) := dk_182 1 55 (dk_at dksX1_areAsked_1 12 rfl rfl)
theorem dX1_areAsked_37 : decode cX1_areAsked 37 = .ok (.iastore, 1) := dk_79 (dk_at dksX1_areAsked_1 15 rfl rfl)
theorem dX1_areAsked_38 : decode cX1_areAsked 38 = .ok (.aload_n 0, 1) := dk_42 (dk_at dksX1_areAsked_1 16 rfl rfl)
theorem dX1_areAsked_39 : decode cX1_areAsked 39 = .ok (.aload_n 0, 1) := dk_42 (dk_at dksX1_areAsked_1 17 rfl rfl)
theorem dX1_areAsked_40 : decode cX1_areAsked 40 = .ok (.getfield 135, 3) := dk_180 0 135 (dk_at dksX1_areAsked_1 18 rfl rfl)
theorem dX1_areAsked_43 : decode cX1_areAsked 43 = .ok (.iload 4, 2) := dk_21 4 (dk_at dksX1_areAsked_1 21 rfl rfl)
theorem dX1_areAsked_45 : decode cX1_areAsked 45 = .ok (.iaload, 1) := dk_46 (dk_at dksX1_areAsked_1 23 rfl rfl)
theorem dX1_areAsked_46 : decode cX1_areAsked 46 = .ok (.invokevirtual 275, 3) := dk_182 1 19 (dk_at dksX1_areAsked_2 0 rfl rfl)
theorem dX1_areAsked_49 : decode cX1_areAsked 49 = .ok (.ifCond .ne 5, 3) := dk_154 0 5 (dk_at dksX1_areAsked_2 3 rfl rfl)
theorem dX1_areAsked_52 : decode cX1_areAsked 52 = .ok (.iconst 0, 1) := dk_3 (dk_at dksX1_areAsked_2 6 rfl rfl)
theorem dX1_areAsked_53 : decode cX1_areAsked 53 = .ok (.ireturn, 1) := dk_172 (dk_at dksX1_areAsked_2 7 rfl rfl)
theorem dX1_areAsked_54 : decode cX1_areAsked 54 = .ok (.iconst 0, 1) := dk_3 (dk_at dksX1_areAsked_2 8 rfl rfl)
theorem dX1_areAsked_55 : decode cX1_areAsked 55 = .ok (.istore 5, 2) := dk_54 5 (dk_at dksX1_areAsked_2 9 rfl rfl)
theorem dX1_areAsked_57 : decode cX1_areAsked 57 = .ok (.iload 5, 2) := dk_21 5 (dk_at dksX1_areAsked_2 11 rfl rfl)
theorem dX1_areAsked_59 : decode cX1_areAsked 59 = .ok (.iload 4, 2) := dk_21 4 (dk_at dksX1_areAsked_2 13 rfl rfl)
theorem dX1_areAsked_61 : decode cX1_areAsked 61 = .ok (.if_icmp .ge 28, 3) := dk_162 0 28 (dk_at dksX1_areAsked_2 15 rfl rfl)
theorem dX1_areAsked_64 : decode cX1_areAsked 64 = .ok (.aload_n 0, 1) := dk_42 (dk_at dksX1_areAsked_2 18 rfl rfl)
theorem dX1_areAsked_65 : decode cX1_areAsked 65 = .ok (.getfield 135, 3) := dk_180 0 135 (dk_at dksX1_areAsked_2 19 rfl rfl)
theorem dX1_areAsked_68 : decode cX1_areAsked 68 = .ok (.iload 5, 2) := dk_21 5 (dk_at dksX1_areAsked_2 22 rfl rfl)
theorem dX1_areAsked_70 : decode cX1_areAsked 70 = .ok (.iaload, 1) := dk_46 (dk_at dksX1_areAsked_3 0 rfl rfl)
theorem dX1_areAsked_71 : decode cX1_areAsked 71 = .ok (.aload_n 0, 1) := dk_42 (dk_at dksX1_areAsked_3 1 rfl rfl)
theorem dX1_areAsked_72 : decode cX1_areAsked 72 = .ok (.getfield 135, 3) := dk_180 0 135 (dk_at dksX1_areAsked_3 2 rfl rfl)
theorem dX1_areAsked_75 : decode cX1_areAsked 75 = .ok (.iload 4, 2) := dk_21 4 (dk_at dksX1_areAsked_3 5 rfl rfl)
theorem dX1_areAsked_77 : decode cX1_areAsked 77 = .ok (.iaload, 1) := dk_46 (dk_at dksX1_areAsked_3 7 rfl rfl)
theorem dX1_areAsked_78 : decode cX1_areAsked 78 = .ok (.if_icmp .ne 5, 3) := dk_160 0 5 (dk_at dksX1_areAsked_3 8 rfl rfl)
theorem dX1_areAsked_81 : decode cX1_areAsked 81 = .ok (.iconst 0, 1) := dk_3 (dk_at dksX1_areAsked_3 11 rfl rfl)
theorem dX1_areAsked_82 : decode cX1_areAsked 82 = .ok (.ireturn, 1) := dk_172 (dk_at dksX1_areAsked_3 12 rfl rfl)
theorem dX1_areAsked_83 : decode cX1_areAsked 83 = .ok (.iinc 5 1, 3) := dk_132 5 1 (dk_at dksX1_areAsked_3 13 rfl rfl)
theorem dX1_areAsked_86 : decode cX1_areAsked 86 = .ok (.goto (-29), 3) := dk_167 255 227 (dk_at dksX1_areAsked_3 16 rfl rfl)
theorem dX1_areAsked_89 : decode cX1_areAsked 89 = .ok (.iinc 4 1, 3) := dk_132 4 1 (dk_at dksX1_areAsked_3 19 rfl rfl)
theorem dX1_areAsked_92 : decode cX1_areAsked 92 = .ok (.goto (-73), 3) := dk_167 255 183 (dk_at dksX1_areAsked_4 0 rfl rfl)
theorem dX1_areAsked_95 : decode cX1_areAsked 95 = .ok (.iconst 1, 1) := dk_4 (dk_at dksX1_areAsked_4 3 rfl rfl)
theorem dX1_areAsked_96 : decode cX1_areAsked 96 = .ok (.ireturn, 1) := dk_172 (dk_at dksX1_areAsked_4 4 rfl rfl)
abbrev cX1_one : ByteArray := prog_1_method_6_code
def yX1_one : MethodName := ⟨RX1, "one", "(I)I"⟩
def dkwX1_one_0 : List UInt8 := [42, 180, 0, 9, 27, 51, 17, 0, 255, 126, 172]
abbrev dktX1_one_0 : List UInt8 := dkwX1_one_0 ++ []
theorem dksX1_one_0 : cX1_one.data.toList.drop 0 = dktX1_one_0 := by decide +kernel
theorem dX1_one_0 : decode cX1_one 0 = .ok (.aload_n 0, 1) := dk_42 (dk_at dksX1_one_0 0 rfl rfl)
theorem dX1_one_1 : decode cX1_one 1 = .ok (.getfield 9, 3) := dk_180 0 9 (dk_at dksX1_one_0 1 rfl rfl)
theorem dX1_one_4 : decode cX1_one 4 = .ok (.iload_n 1, 1) := dk_27 (dk_at dksX1_one_0 4 rfl rfl)
theorem dX1_one_5 : decode cX1_one 5 = .ok (.baload, 1) := dk_51 (dk_at dksX1_one_0 5 rfl rfl)
theorem dX1_one_6 : decode cX1_one 6 = .ok (.sipush 255, 3) := dk_17 0 255 (dk_at dksX1_one_0 6 rfl rfl)
theorem dX1_one_9 : decode cX1_one 9 = .ok (.iand, 1) := dk_126 (dk_at dksX1_one_0 9 rfl rfl)
theorem dX1_one_10 : decode cX1_one 10 = .ok (.ireturn, 1) := dk_172 (dk_at dksX1_one_0 10 rfl rfl)
abbrev cX1_isMan : ByteArray := prog_1_method_13_code
def yX1_isMan : MethodName := ⟨RX1, "isMan", "(I)Z"⟩
def dkwX1_isMan_0 : List UInt8 := [27, 3, 42, 180, 0, 96, 180, 0, 241, 180, 1, 12, 4, 100, 184, 1, 15, 172]
abbrev dktX1_isMan_0 : List UInt8 := dkwX1_isMan_0 ++ []
theorem dksX1_isMan_0 : cX1_isMan.data.toList.drop 0 = dktX1_isMan_0 := by decide +kernel
theorem dX1_isMan_0 : decode cX1_isMan 0 = .ok (.iload_n 1, 1) := dk_27 (dk_at dksX1_isMan_0 0 rfl rfl)
theorem dX1_isMan_1 : decode cX1_isMan 1 = .ok (.iconst 0, 1) := dk_3 (dk_at dksX1_isMan_0 1 rfl rfl)
theorem dX1_isMan_2 : decode cX1_isMan 2 = .ok (.aload_n 0, 1) := dk_42 (dk_at dksX1_isMan_0 2 rfl rfl)
theorem dX1_isMan_3 : decode cX1_isMan 3 = .ok (.getfield 96, 3) := dk_180 0 96 (dk_at dksX1_isMan_0 3 rfl rfl)
theorem dX1_isMan_6 : decode cX1_isMan 6 = .ok (.getfield 241, 3) := dk_180 0 241 (dk_at dksX1_isMan_0 6 rfl rfl)
theorem dX1_isMan_9 : decode cX1_isMan 9 = .ok (.getfield 268, 3) := dk_180 1 12 (dk_at dksX1_isMan_0 9 rfl rfl)
theorem dX1_isMan_12 : decode cX1_isMan 12 = .ok (.iconst 1, 1) := dk_4 (dk_at dksX1_isMan_0 12 rfl rfl)
theorem dX1_isMan_13 : decode cX1_isMan 13 = .ok (.isub, 1) := dk_100 (dk_at dksX1_isMan_0 13 rfl rfl)
theorem dX1_isMan_14 : decode cX1_isMan 14 = .ok (.invokestatic 271, 3) := dk_184 1 15 (dk_at dksX1_isMan_0 14 rfl rfl)
theorem dX1_isMan_17 : decode cX1_isMan 17 = .ok (.ireturn, 1) := dk_172 (dk_at dksX1_isMan_0 17 rfl rfl)
abbrev cX1_areTicks : ByteArray := prog_1_method_17_code
def yX1_areTicks : MethodName := ⟨RX1, "areTicks", "(I)Z"⟩
def dkwX1_areTicks_0 : List UInt8 := [26, 3, 17, 14, 16, 184, 1, 15, 172]
abbrev dktX1_areTicks_0 : List UInt8 := dkwX1_areTicks_0 ++ []
theorem dksX1_areTicks_0 : cX1_areTicks.data.toList.drop 0 = dktX1_areTicks_0 := by decide +kernel
theorem dX1_areTicks_0 : decode cX1_areTicks 0 = .ok (.iload_n 0, 1) := dk_26 (dk_at dksX1_areTicks_0 0 rfl rfl)
theorem dX1_areTicks_1 : decode cX1_areTicks 1 = .ok (.iconst 0, 1) := dk_3 (dk_at dksX1_areTicks_0 1 rfl rfl)
theorem dX1_areTicks_2 : decode cX1_areTicks 2 = .ok (.sipush 3600, 3) := dk_17 14 16 (dk_at dksX1_areTicks_0 2 rfl rfl)
theorem dX1_areTicks_5 : decode cX1_areTicks 5 = .ok (.invokestatic 271, 3) := dk_184 1 15 (dk_at dksX1_areTicks_0 5 rfl rfl)
theorem dX1_areTicks_8 : decode cX1_areTicks 8 = .ok (.ireturn, 1) := dk_172 (dk_at dksX1_areTicks_0 8 rfl rfl)
abbrev cX1_up : ByteArray := prog_1_method_9_code
def yX1_up : MethodName := ⟨RX1, "up", "(II)I"⟩
def dkwX1_up_0 : List UInt8 := [26, 27, 96, 4, 100, 27, 108, 172]
abbrev dktX1_up_0 : List UInt8 := dkwX1_up_0 ++ []
theorem dksX1_up_0 : cX1_up.data.toList.drop 0 = dktX1_up_0 := by decide +kernel
theorem dX1_up_0 : decode cX1_up 0 = .ok (.iload_n 0, 1) := dk_26 (dk_at dksX1_up_0 0 rfl rfl)
theorem dX1_up_1 : decode cX1_up 1 = .ok (.iload_n 1, 1) := dk_27 (dk_at dksX1_up_0 1 rfl rfl)
theorem dX1_up_2 : decode cX1_up 2 = .ok (.iadd, 1) := dk_96 (dk_at dksX1_up_0 2 rfl rfl)
theorem dX1_up_3 : decode cX1_up 3 = .ok (.iconst 1, 1) := dk_4 (dk_at dksX1_up_0 3 rfl rfl)
theorem dX1_up_4 : decode cX1_up 4 = .ok (.isub, 1) := dk_100 (dk_at dksX1_up_0 4 rfl rfl)
theorem dX1_up_5 : decode cX1_up 5 = .ok (.iload_n 1, 1) := dk_27 (dk_at dksX1_up_0 5 rfl rfl)
theorem dX1_up_6 : decode cX1_up 6 = .ok (.idiv, 1) := dk_108 (dk_at dksX1_up_0 6 rfl rfl)
theorem dX1_up_7 : decode cX1_up 7 = .ok (.ireturn, 1) := dk_172 (dk_at dksX1_up_0 7 rfl rfl)
abbrev cX1_keep : ByteArray := prog_1_method_19_code
def yX1_keep : MethodName := ⟨RX1, "keep", "()V"⟩
def dkwX1_keep_6 : List UInt8 := [42, 180, 0, 142, 3, 16, 12, 184, 1, 103, 177]
abbrev dktX1_keep_6 : List UInt8 := dkwX1_keep_6 ++ []
def dkwX1_keep_5 : List UInt8 := [180, 1, 77, 100, 79, 42, 42, 180, 0, 119, 180, 1, 99, 181, 1, 100, 42, 180, 0, 119, 180, 1, 96, 3]
abbrev dktX1_keep_5 : List UInt8 := dkwX1_keep_5 ++ dktX1_keep_6
def dkwX1_keep_4 : List UInt8 := [180, 0, 139, 8, 42, 180, 0, 119, 180, 1, 90, 42, 180, 0, 119, 180, 1, 93, 100, 42, 180, 0, 119]
abbrev dktX1_keep_4 : List UInt8 := dkwX1_keep_4 ++ dktX1_keep_5
def dkwX1_keep_3 : List UInt8 := [180, 0, 139, 7, 42, 180, 0, 119, 180, 1, 96, 42, 180, 0, 119, 180, 1, 99, 4, 100, 46, 79, 42]
abbrev dktX1_keep_3 : List UInt8 := dkwX1_keep_3 ++ dktX1_keep_4
def dkwX1_keep_2 : List UInt8 := [5, 42, 180, 0, 119, 180, 1, 90, 79, 42, 180, 0, 139, 6, 42, 180, 0, 119, 180, 1, 93, 79, 42]
abbrev dktX1_keep_2 : List UInt8 := dkwX1_keep_2 ++ dktX1_keep_3
def dkwX1_keep_1 : List UInt8 := [167, 0, 12, 42, 180, 0, 119, 180, 1, 87, 27, 46, 79, 42, 180, 0, 139, 4, 27, 79, 42, 180, 0, 139]
abbrev dktX1_keep_1 : List UInt8 := dkwX1_keep_1 ++ dktX1_keep_2
def dkwX1_keep_0 : List UInt8 := [42, 4, 181, 1, 79, 42, 180, 0, 119, 182, 1, 83, 60, 42, 180, 0, 139, 3, 27, 154, 0, 7, 3]
abbrev dktX1_keep_0 : List UInt8 := dkwX1_keep_0 ++ dktX1_keep_1
theorem dksX1_keep_0 : cX1_keep.data.toList.drop 0 = dktX1_keep_0 := by decide +kernel
theorem dksX1_keep_1 : cX1_keep.data.toList.drop 23 = dktX1_keep_1 := dk_seg dksX1_keep_0 23 rfl rfl
theorem dksX1_keep_2 : cX1_keep.data.toList.drop 47 = dktX1_keep_2 := dk_seg dksX1_keep_1 24 rfl rfl
theorem dksX1_keep_3 : cX1_keep.data.toList.drop 70 = dktX1_keep_3 := dk_seg dksX1_keep_2 23 rfl rfl
theorem dksX1_keep_4 : cX1_keep.data.toList.drop 93 = dktX1_keep_4 := dk_seg dksX1_keep_3 23 rfl rfl
theorem dksX1_keep_5 : cX1_keep.data.toList.drop 116 = dktX1_keep_5 := dk_seg dksX1_keep_4 23 rfl rfl
theorem dksX1_keep_6 : cX1_keep.data.toList.drop 140 = dktX1_keep_6 := dk_seg dksX1_keep_5 24 rfl rfl
theorem dX1_keep_0 : decode cX1_keep 0 = .ok (.aload_n 0, 1) := dk_42 (dk_at dksX1_keep_0 0 rfl rfl)
theorem dX1_keep_1 : decode cX1_keep 1 = .ok (.iconst 1, 1) := dk_4 (dk_at dksX1_keep_0 1 rfl rfl)
theorem dX1_keep_2 : decode cX1_keep 2 = .ok (.putfield 335, 3) := dk_181 1 79 (dk_at dksX1_keep_0 2 rfl rfl)
theorem dX1_keep_5 : decode cX1_keep 5 = .ok (.aload_n 0, 1) := dk_42 (dk_at dksX1_keep_0 5 rfl rfl)
theorem dX1_keep_6 : decode cX1_keep 6 = .ok (.getfield 119, 3) := dk_180 0 119 (dk_at dksX1_keep_0 6 rfl rfl)
theorem dX1_keep_9 : decode cX1_keep 9 = .ok (.invokevirtual 339, 3) := dk_182 1 83 (dk_at dksX1_keep_0 9 rfl rfl)
theorem dX1_keep_12 : decode cX1_keep 12 = .ok (.istore_n 1, 1) := dk_60 (dk_at dksX1_keep_0 12 rfl rfl)
theorem dX1_keep_13 : decode cX1_keep 13 = .ok (.aload_n 0, 1) := dk_42 (dk_at dksX1_keep_0 13 rfl rfl)
theorem dX1_keep_14 : decode cX1_keep 14 = .ok (.getfield 139, 3) := dk_180 0 139 (dk_at dksX1_keep_0 14 rfl rfl)
theorem dX1_keep_17 : decode cX1_keep 17 = .ok (.iconst 0, 1) := dk_3 (dk_at dksX1_keep_0 17 rfl rfl)
theorem dX1_keep_18 : decode cX1_keep 18 = .ok (.iload_n 1, 1) := dk_27 (dk_at dksX1_keep_0 18 rfl rfl)
theorem dX1_keep_19 : decode cX1_keep 19 = .ok (.ifCond .ne 7, 3) := dk_154 0 7 (dk_at dksX1_keep_0 19 rfl rfl)
theorem dX1_keep_22 : decode cX1_keep 22 = .ok (.iconst 0, 1) := dk_3 (dk_at dksX1_keep_0 22 rfl rfl)
theorem dX1_keep_23 : decode cX1_keep 23 = .ok (.goto 12, 3) := dk_167 0 12 (dk_at dksX1_keep_1 0 rfl rfl)
theorem dX1_keep_26 : decode cX1_keep 26 = .ok (.aload_n 0, 1) := dk_42 (dk_at dksX1_keep_1 3 rfl rfl)
theorem dX1_keep_27 : decode cX1_keep 27 = .ok (.getfield 119, 3) := dk_180 0 119 (dk_at dksX1_keep_1 4 rfl rfl)
theorem dX1_keep_30 : decode cX1_keep 30 = .ok (.getfield 343, 3) := dk_180 1 87 (dk_at dksX1_keep_1 7 rfl rfl)
theorem dX1_keep_33 : decode cX1_keep 33 = .ok (.iload_n 1, 1) := dk_27 (dk_at dksX1_keep_1 10 rfl rfl)
theorem dX1_keep_34 : decode cX1_keep 34 = .ok (.iaload, 1) := dk_46 (dk_at dksX1_keep_1 11 rfl rfl)
theorem dX1_keep_35 : decode cX1_keep 35 = .ok (.iastore, 1) := dk_79 (dk_at dksX1_keep_1 12 rfl rfl)
theorem dX1_keep_36 : decode cX1_keep 36 = .ok (.aload_n 0, 1) := dk_42 (dk_at dksX1_keep_1 13 rfl rfl)
theorem dX1_keep_37 : decode cX1_keep 37 = .ok (.getfield 139, 3) := dk_180 0 139 (dk_at dksX1_keep_1 14 rfl rfl)
theorem dX1_keep_40 : decode cX1_keep 40 = .ok (.iconst 1, 1) := dk_4 (dk_at dksX1_keep_1 17 rfl rfl)
theorem dX1_keep_41 : decode cX1_keep 41 = .ok (.iload_n 1, 1) := dk_27 (dk_at dksX1_keep_1 18 rfl rfl)
theorem dX1_keep_42 : decode cX1_keep 42 = .ok (.iastore, 1) := dk_79 (dk_at dksX1_keep_1 19 rfl rfl)
theorem dX1_keep_43 : decode cX1_keep 43 = .ok (.aload_n 0, 1) := dk_42 (dk_at dksX1_keep_1 20 rfl rfl)
theorem dX1_keep_44 : decode cX1_keep 44 = .ok (.getfield 139, 3) := dk_180 0 139 (dk_at dksX1_keep_1 21 rfl rfl)
theorem dX1_keep_47 : decode cX1_keep 47 = .ok (.iconst 2, 1) := dk_5 (dk_at dksX1_keep_2 0 rfl rfl)
theorem dX1_keep_48 : decode cX1_keep 48 = .ok (.aload_n 0, 1) := dk_42 (dk_at dksX1_keep_2 1 rfl rfl)
theorem dX1_keep_49 : decode cX1_keep 49 = .ok (.getfield 119, 3) := dk_180 0 119 (dk_at dksX1_keep_2 2 rfl rfl)
theorem dX1_keep_52 : decode cX1_keep 52 = .ok (.getfield 346, 3) := dk_180 1 90 (dk_at dksX1_keep_2 5 rfl rfl)
theorem dX1_keep_55 : decode cX1_keep 55 = .ok (.iastore, 1) := dk_79 (dk_at dksX1_keep_2 8 rfl rfl)
theorem dX1_keep_56 : decode cX1_keep 56 = .ok (.aload_n 0, 1) := dk_42 (dk_at dksX1_keep_2 9 rfl rfl)
theorem dX1_keep_57 : decode cX1_keep 57 = .ok (.getfield 139, 3) := dk_180 0 139 (dk_at dksX1_keep_2 10 rfl rfl)
theorem dX1_keep_60 : decode cX1_keep 60 = .ok (.iconst 3, 1) := dk_6 (dk_at dksX1_keep_2 13 rfl rfl)
theorem dX1_keep_61 : decode cX1_keep 61 = .ok (.aload_n 0, 1) := dk_42 (dk_at dksX1_keep_2 14 rfl rfl)
theorem dX1_keep_62 : decode cX1_keep 62 = .ok (.getfield 119, 3) := dk_180 0 119 (dk_at dksX1_keep_2 15 rfl rfl)
theorem dX1_keep_65 : decode cX1_keep 65 = .ok (.getfield 349, 3) := dk_180 1 93 (dk_at dksX1_keep_2 18 rfl rfl)
theorem dX1_keep_68 : decode cX1_keep 68 = .ok (.iastore, 1) := dk_79 (dk_at dksX1_keep_2 21 rfl rfl)
theorem dX1_keep_69 : decode cX1_keep 69 = .ok (.aload_n 0, 1) := dk_42 (dk_at dksX1_keep_2 22 rfl rfl)
theorem dX1_keep_70 : decode cX1_keep 70 = .ok (.getfield 139, 3) := dk_180 0 139 (dk_at dksX1_keep_3 0 rfl rfl)
theorem dX1_keep_73 : decode cX1_keep 73 = .ok (.iconst 4, 1) := dk_7 (dk_at dksX1_keep_3 3 rfl rfl)
theorem dX1_keep_74 : decode cX1_keep 74 = .ok (.aload_n 0, 1) := dk_42 (dk_at dksX1_keep_3 4 rfl rfl)
theorem dX1_keep_75 : decode cX1_keep 75 = .ok (.getfield 119, 3) := dk_180 0 119 (dk_at dksX1_keep_3 5 rfl rfl)
theorem dX1_keep_78 : decode cX1_keep 78 = .ok (.getfield 352, 3) := dk_180 1 96 (dk_at dksX1_keep_3 8 rfl rfl)
theorem dX1_keep_81 : decode cX1_keep 81 = .ok (.aload_n 0, 1) := dk_42 (dk_at dksX1_keep_3 11 rfl rfl)
theorem dX1_keep_82 : decode cX1_keep 82 = .ok (.getfield 119, 3) := dk_180 0 119 (dk_at dksX1_keep_3 12 rfl rfl)
theorem dX1_keep_85 : decode cX1_keep 85 = .ok (.getfield 355, 3) := dk_180 1 99 (dk_at dksX1_keep_3 15 rfl rfl)
theorem dX1_keep_88 : decode cX1_keep 88 = .ok (.iconst 1, 1) := dk_4 (dk_at dksX1_keep_3 18 rfl rfl)
theorem dX1_keep_89 : decode cX1_keep 89 = .ok (.isub, 1) := dk_100 (dk_at dksX1_keep_3 19 rfl rfl)
theorem dX1_keep_90 : decode cX1_keep 90 = .ok (.iaload, 1) := dk_46 (dk_at dksX1_keep_3 20 rfl rfl)
theorem dX1_keep_91 : decode cX1_keep 91 = .ok (.iastore, 1) := dk_79 (dk_at dksX1_keep_3 21 rfl rfl)
theorem dX1_keep_92 : decode cX1_keep 92 = .ok (.aload_n 0, 1) := dk_42 (dk_at dksX1_keep_3 22 rfl rfl)
theorem dX1_keep_93 : decode cX1_keep 93 = .ok (.getfield 139, 3) := dk_180 0 139 (dk_at dksX1_keep_4 0 rfl rfl)
theorem dX1_keep_96 : decode cX1_keep 96 = .ok (.iconst 5, 1) := dk_8 (dk_at dksX1_keep_4 3 rfl rfl)
theorem dX1_keep_97 : decode cX1_keep 97 = .ok (.aload_n 0, 1) := dk_42 (dk_at dksX1_keep_4 4 rfl rfl)
theorem dX1_keep_98 : decode cX1_keep 98 = .ok (.getfield 119, 3) := dk_180 0 119 (dk_at dksX1_keep_4 5 rfl rfl)
theorem dX1_keep_101 : decode cX1_keep 101 = .ok (.getfield 346, 3) := dk_180 1 90 (dk_at dksX1_keep_4 8 rfl rfl)
theorem dX1_keep_104 : decode cX1_keep 104 = .ok (.aload_n 0, 1) := dk_42 (dk_at dksX1_keep_4 11 rfl rfl)
theorem dX1_keep_105 : decode cX1_keep 105 = .ok (.getfield 119, 3) := dk_180 0 119 (dk_at dksX1_keep_4 12 rfl rfl)
theorem dX1_keep_108 : decode cX1_keep 108 = .ok (.getfield 349, 3) := dk_180 1 93 (dk_at dksX1_keep_4 15 rfl rfl)
theorem dX1_keep_111 : decode cX1_keep 111 = .ok (.isub, 1) := dk_100 (dk_at dksX1_keep_4 18 rfl rfl)
theorem dX1_keep_112 : decode cX1_keep 112 = .ok (.aload_n 0, 1) := dk_42 (dk_at dksX1_keep_4 19 rfl rfl)
theorem dX1_keep_113 : decode cX1_keep 113 = .ok (.getfield 119, 3) := dk_180 0 119 (dk_at dksX1_keep_4 20 rfl rfl)
theorem dX1_keep_116 : decode cX1_keep 116 = .ok (.getfield 333, 3) := dk_180 1 77 (dk_at dksX1_keep_5 0 rfl rfl)
theorem dX1_keep_119 : decode cX1_keep 119 = .ok (.isub, 1) := dk_100 (dk_at dksX1_keep_5 3 rfl rfl)
theorem dX1_keep_120 : decode cX1_keep 120 = .ok (.iastore, 1) := dk_79 (dk_at dksX1_keep_5 4 rfl rfl)
theorem dX1_keep_121 : decode cX1_keep 121 = .ok (.aload_n 0, 1) := dk_42 (dk_at dksX1_keep_5 5 rfl rfl)
theorem dX1_keep_122 : decode cX1_keep 122 = .ok (.aload_n 0, 1) := dk_42 (dk_at dksX1_keep_5 6 rfl rfl)
theorem dX1_keep_123 : decode cX1_keep 123 = .ok (.getfield 119, 3) := dk_180 0 119 (dk_at dksX1_keep_5 7 rfl rfl)
theorem dX1_keep_126 : decode cX1_keep 126 = .ok (.getfield 355, 3) := dk_180 1 99 (dk_at dksX1_keep_5 10 rfl rfl)
theorem dX1_keep_129 : decode cX1_keep 129 = .ok (.putfield 356, 3) := dk_181 1 100 (dk_at dksX1_keep_5 13 rfl rfl)
theorem dX1_keep_132 : decode cX1_keep 132 = .ok (.aload_n 0, 1) := dk_42 (dk_at dksX1_keep_5 16 rfl rfl)
theorem dX1_keep_133 : decode cX1_keep 133 = .ok (.getfield 119, 3) := dk_180 0 119 (dk_at dksX1_keep_5 17 rfl rfl)
theorem dX1_keep_136 : decode cX1_keep 136 = .ok (.getfield 352, 3) := dk_180 1 96 (dk_at dksX1_keep_5 20 rfl rfl)
theorem dX1_keep_139 : decode cX1_keep 139 = .ok (.iconst 0, 1) := dk_3 (dk_at dksX1_keep_5 23 rfl rfl)
theorem dX1_keep_140 : decode cX1_keep 140 = .ok (.aload_n 0, 1) := dk_42 (dk_at dksX1_keep_6 0 rfl rfl)
theorem dX1_keep_141 : decode cX1_keep 141 = .ok (.getfield 142, 3) := dk_180 0 142 (dk_at dksX1_keep_6 1 rfl rfl)
theorem dX1_keep_144 : decode cX1_keep 144 = .ok (.iconst 0, 1) := dk_3 (dk_at dksX1_keep_6 4 rfl rfl)
theorem dX1_keep_145 : decode cX1_keep 145 = .ok (.bipush 12, 2) := dk_16 12 (dk_at dksX1_keep_6 5 rfl rfl)
theorem dX1_keep_147 : decode cX1_keep 147 = .ok (.invokestatic 359, 3) := dk_184 1 103 (dk_at dksX1_keep_6 7 rfl rfl)
theorem dX1_keep_150 : decode cX1_keep 150 = .ok (.return_, 1) := dk_177 (dk_at dksX1_keep_6 10 rfl rfl)
abbrev cX1_rowBy : ByteArray := prog_1_method_20_code
def yX1_rowBy : MethodName := ⟨RX1, "rowBy", "(I)I"⟩
def dkwX1_rowBy_1 : List UInt8 := [167, 0, 4, 2, 172]
abbrev dktX1_rowBy_1 : List UInt8 := dkwX1_rowBy_1 ++ []
def dkwX1_rowBy_0 : List UInt8 := [42, 180, 1, 79, 153, 0, 21, 27, 3, 8, 184, 1, 15, 153, 0, 12, 42, 180, 0, 139, 27, 46]
abbrev dktX1_rowBy_0 : List UInt8 := dkwX1_rowBy_0 ++ dktX1_rowBy_1
theorem dksX1_rowBy_0 : cX1_rowBy.data.toList.drop 0 = dktX1_rowBy_0 := by decide +kernel
theorem dksX1_rowBy_1 : cX1_rowBy.data.toList.drop 22 = dktX1_rowBy_1 := dk_seg dksX1_rowBy_0 22 rfl rfl
theorem dX1_rowBy_0 : decode cX1_rowBy 0 = .ok (.aload_n 0, 1) := dk_42 (dk_at dksX1_rowBy_0 0 rfl rfl)
theorem dX1_rowBy_1 : decode cX1_rowBy 1 = .ok (.getfield 335, 3) := dk_180 1 79 (dk_at dksX1_rowBy_0 1 rfl rfl)
theorem dX1_rowBy_4 : decode cX1_rowBy 4 = .ok (.ifCond .eq 21, 3) := dk_153 0 21 (dk_at dksX1_rowBy_0 4 rfl rfl)
theorem dX1_rowBy_7 : decode cX1_rowBy 7 = .ok (.iload_n 1, 1) := dk_27 (dk_at dksX1_rowBy_0 7 rfl rfl)
theorem dX1_rowBy_8 : decode cX1_rowBy 8 = .ok (.iconst 0, 1) := dk_3 (dk_at dksX1_rowBy_0 8 rfl rfl)
theorem dX1_rowBy_9 : decode cX1_rowBy 9 = .ok (.iconst 5, 1) := dk_8 (dk_at dksX1_rowBy_0 9 rfl rfl)
theorem dX1_rowBy_10 : decode cX1_rowBy 10 = .ok (.invokestatic 271, 3) := dk_184 1 15 (dk_at dksX1_rowBy_0 10 rfl rfl)
theorem dX1_rowBy_13 : decode cX1_rowBy 13 = .ok (.ifCond .eq 12, 3) := dk_153 0 12 (dk_at dksX1_rowBy_0 13 rfl rfl)
theorem dX1_rowBy_16 : decode cX1_rowBy 16 = .ok (.aload_n 0, 1) := dk_42 (dk_at dksX1_rowBy_0 16 rfl rfl)
theorem dX1_rowBy_17 : decode cX1_rowBy 17 = .ok (.getfield 139, 3) := dk_180 0 139 (dk_at dksX1_rowBy_0 17 rfl rfl)
theorem dX1_rowBy_20 : decode cX1_rowBy 20 = .ok (.iload_n 1, 1) := dk_27 (dk_at dksX1_rowBy_0 20 rfl rfl)
theorem dX1_rowBy_21 : decode cX1_rowBy 21 = .ok (.iaload, 1) := dk_46 (dk_at dksX1_rowBy_0 21 rfl rfl)
theorem dX1_rowBy_22 : decode cX1_rowBy 22 = .ok (.goto 4, 3) := dk_167 0 4 (dk_at dksX1_rowBy_1 0 rfl rfl)
theorem dX1_rowBy_25 : decode cX1_rowBy 25 = .ok (.iconst (-1), 1) := dk_2 (dk_at dksX1_rowBy_1 3 rfl rfl)
theorem dX1_rowBy_26 : decode cX1_rowBy 26 = .ok (.ireturn, 1) := dk_172 (dk_at dksX1_rowBy_1 4 rfl rfl)
abbrev cX1_done : ByteArray := prog_1_method_21_code
def yX1_done : MethodName := ⟨RX1, "done", "(I)I"⟩
def dkwX1_done_1 : List UInt8 := [172]
abbrev dktX1_done_1 : List UInt8 := dkwX1_done_1 ++ []
def dkwX1_done_0 : List UInt8 := [27, 3, 42, 180, 1, 100, 4, 100, 184, 1, 15, 153, 0, 12, 42, 180, 0, 142, 27, 46, 167, 0, 4, 2]
abbrev dktX1_done_0 : List UInt8 := dkwX1_done_0 ++ dktX1_done_1
theorem dksX1_done_0 : cX1_done.data.toList.drop 0 = dktX1_done_0 := by decide +kernel
theorem dksX1_done_1 : cX1_done.data.toList.drop 24 = dktX1_done_1 := dk_seg dksX1_done_0 24 rfl rfl
theorem dX1_done_0 : decode cX1_done 0 = .ok (.iload_n 1, 1) := dk_27 (dk_at dksX1_done_0 0 rfl rfl)
theorem dX1_done_1 : decode cX1_done 1 = .ok (.iconst 0, 1) := dk_3 (dk_at dksX1_done_0 1 rfl rfl)
theorem dX1_done_2 : decode cX1_done 2 = .ok (.aload_n 0, 1) := dk_42 (dk_at dksX1_done_0 2 rfl rfl)
theorem dX1_done_3 : decode cX1_done 3 = .ok (.getfield 356, 3) := dk_180 1 100 (dk_at dksX1_done_0 3 rfl rfl)
theorem dX1_done_6 : decode cX1_done 6 = .ok (.iconst 1, 1) := dk_4 (dk_at dksX1_done_0 6 rfl rfl)
theorem dX1_done_7 : decode cX1_done 7 = .ok (.isub, 1) := dk_100 (dk_at dksX1_done_0 7 rfl rfl)
theorem dX1_done_8 : decode cX1_done 8 = .ok (.invokestatic 271, 3) := dk_184 1 15 (dk_at dksX1_done_0 8 rfl rfl)
theorem dX1_done_11 : decode cX1_done 11 = .ok (.ifCond .eq 12, 3) := dk_153 0 12 (dk_at dksX1_done_0 11 rfl rfl)
theorem dX1_done_14 : decode cX1_done 14 = .ok (.aload_n 0, 1) := dk_42 (dk_at dksX1_done_0 14 rfl rfl)
theorem dX1_done_15 : decode cX1_done 15 = .ok (.getfield 142, 3) := dk_180 0 142 (dk_at dksX1_done_0 15 rfl rfl)
theorem dX1_done_18 : decode cX1_done 18 = .ok (.iload_n 1, 1) := dk_27 (dk_at dksX1_done_0 18 rfl rfl)
theorem dX1_done_19 : decode cX1_done 19 = .ok (.iaload, 1) := dk_46 (dk_at dksX1_done_0 19 rfl rfl)
theorem dX1_done_20 : decode cX1_done 20 = .ok (.goto 4, 3) := dk_167 0 4 (dk_at dksX1_done_0 20 rfl rfl)
theorem dX1_done_23 : decode cX1_done 23 = .ok (.iconst (-1), 1) := dk_2 (dk_at dksX1_done_0 23 rfl rfl)
theorem dX1_done_24 : decode cX1_done 24 = .ok (.ireturn, 1) := dk_172 (dk_at dksX1_done_1 0 rfl rfl)
abbrev cX1_period : ByteArray := prog_1_method_22_code
def yX1_period : MethodName := ⟨RX1, "period", "()I"⟩
def dkwX1_period_2 : List UInt8 := [182, 1, 109, 172]
abbrev dktX1_period_2 : List UInt8 := dkwX1_period_2 ++ []
def dkwX1_period_1 : List UInt8 := [42, 180, 0, 96, 180, 0, 241, 42, 180, 0, 135, 42, 180, 1, 52, 3, 182, 1, 67, 42, 180, 0, 119]
abbrev dktX1_period_1 : List UInt8 := dkwX1_period_1 ++ dktX1_period_2
def dkwX1_period_0 : List UInt8 := [42, 182, 0, 228, 42, 5, 16, 12, 42, 180, 0, 222, 182, 1, 59, 154, 0, 5, 2, 172, 42, 180, 0, 119]
abbrev dktX1_period_0 : List UInt8 := dkwX1_period_0 ++ dktX1_period_1
theorem dksX1_period_0 : cX1_period.data.toList.drop 0 = dktX1_period_0 := by decide +kernel
theorem dksX1_period_1 : cX1_period.data.toList.drop 24 = dktX1_period_1 := dk_seg dksX1_period_0 24 rfl rfl
theorem dksX1_period_2 : cX1_period.data.toList.drop 47 = dktX1_period_2 := dk_seg dksX1_period_1 23 rfl rfl
theorem dX1_period_0 : decode cX1_period 0 = .ok (.aload_n 0, 1) := dk_42 (dk_at dksX1_period_0 0 rfl rfl)
theorem dX1_period_1 : decode cX1_period 1 = .ok (.invokevirtual 228, 3) := dk_182 0 228 (dk_at dksX1_period_0 1 rfl rfl)
theorem dX1_period_4 : decode cX1_period 4 = .ok (.aload_n 0, 1) := dk_42 (dk_at dksX1_period_0 4 rfl rfl)
theorem dX1_period_5 : decode cX1_period 5 = .ok (.iconst 2, 1) := dk_5 (dk_at dksX1_period_0 5 rfl rfl)
theorem dX1_period_6 : decode cX1_period 6 = .ok (.bipush 12, 2) := dk_16 12 (dk_at dksX1_period_0 6 rfl rfl)
theorem dX1_period_8 : decode cX1_period 8 = .ok (.aload_n 0, 1) := dk_42 (dk_at dksX1_period_0 8 rfl rfl)
theorem dX1_period_9 : decode cX1_period 9 = .ok (.getfield 222, 3) := dk_180 0 222 (dk_at dksX1_period_0 9 rfl rfl)
theorem dX1_period_12 : decode cX1_period 12 = .ok (.invokevirtual 315, 3) := dk_182 1 59 (dk_at dksX1_period_0 12 rfl rfl)
theorem dX1_period_15 : decode cX1_period 15 = .ok (.ifCond .ne 5, 3) := dk_154 0 5 (dk_at dksX1_period_0 15 rfl rfl)
theorem dX1_period_18 : decode cX1_period 18 = .ok (.iconst (-1), 1) := dk_2 (dk_at dksX1_period_0 18 rfl rfl)
theorem dX1_period_19 : decode cX1_period 19 = .ok (.ireturn, 1) := dk_172 (dk_at dksX1_period_0 19 rfl rfl)
theorem dX1_period_20 : decode cX1_period 20 = .ok (.aload_n 0, 1) := dk_42 (dk_at dksX1_period_0 20 rfl rfl)
theorem dX1_period_21 : decode cX1_period 21 = .ok (.getfield 119, 3) := dk_180 0 119 (dk_at dksX1_period_0 21 rfl rfl)
theorem dX1_period_24 : decode cX1_period 24 = .ok (.aload_n 0, 1) := dk_42 (dk_at dksX1_period_1 0 rfl rfl)
theorem dX1_period_25 : decode cX1_period 25 = .ok (.getfield 96, 3) := dk_180 0 96 (dk_at dksX1_period_1 1 rfl rfl)
theorem dX1_period_28 : decode cX1_period 28 = .ok (.getfield 241, 3) := dk_180 0 241 (dk_at dksX1_period_1 4 rfl rfl)
theorem dX1_period_31 : decode cX1_period 31 = .ok (.aload_n 0, 1) := dk_42 (dk_at dksX1_period_1 7 rfl rfl)
theorem dX1_period_32 : decode cX1_period 32 = .ok (.getfield 135, 3) := dk_180 0 135 (dk_at dksX1_period_1 8 rfl rfl)
theorem dX1_period_35 : decode cX1_period 35 = .ok (.aload_n 0, 1) := dk_42 (dk_at dksX1_period_1 11 rfl rfl)
theorem dX1_period_36 : decode cX1_period 36 = .ok (.getfield 308, 3) := dk_180 1 52 (dk_at dksX1_period_1 12 rfl rfl)
theorem dX1_period_39 : decode cX1_period 39 = .ok (.iconst 0, 1) := dk_3 (dk_at dksX1_period_1 15 rfl rfl)
theorem dX1_period_40 : decode cX1_period 40 = .ok (.invokevirtual 323, 3) := dk_182 1 67 (dk_at dksX1_period_1 16 rfl rfl)
theorem dX1_period_43 : decode cX1_period 43 = .ok (.aload_n 0, 1) := dk_42 (dk_at dksX1_period_1 19 rfl rfl)
theorem dX1_period_44 : decode cX1_period 44 = .ok (.getfield 119, 3) := dk_180 0 119 (dk_at dksX1_period_1 20 rfl rfl)
theorem dX1_period_47 : decode cX1_period 47 = .ok (.invokevirtual 365, 3) := dk_182 1 109 (dk_at dksX1_period_2 0 rfl rfl)
theorem dX1_period_50 : decode cX1_period 50 = .ok (.ireturn, 1) := dk_172 (dk_at dksX1_period_2 3 rfl rfl)
abbrev cX1_best : ByteArray := prog_1_method_23_code
def yX1_best : MethodName := ⟨RX1, "best", "()I"⟩
def dkwX1_best_4 : List UInt8 := [3, 3, 182, 1, 116, 42, 42, 180, 1, 52, 181, 1, 120, 42, 180, 1, 113, 172]
abbrev dktX1_best_4 : List UInt8 := dkwX1_best_4 ++ []
def dkwX1_best_3 : List UInt8 := [167, 255, 223, 42, 180, 0, 135, 29, 28, 79, 132, 1, 1, 167, 255, 193, 42, 19, 1, 112, 181, 1, 113, 42]
abbrev dktX1_best_3 : List UInt8 := dkwX1_best_3 ++ dktX1_best_4
def dkwX1_best_2 : List UInt8 := [4, 100, 46, 28, 164, 0, 23, 42, 180, 0, 135, 29, 42, 180, 0, 135, 29, 4, 100, 46, 79, 132, 3, 255]
abbrev dktX1_best_2 : List UInt8 := dkwX1_best_2 ++ dktX1_best_3
def dkwX1_best_1 : List UInt8 := [180, 1, 52, 162, 0, 61, 42, 180, 0, 135, 27, 46, 61, 27, 62, 29, 158, 0, 35, 42, 180, 0, 135, 29]
abbrev dktX1_best_1 : List UInt8 := dkwX1_best_1 ++ dktX1_best_2
def dkwX1_best_0 : List UInt8 := [42, 182, 0, 228, 42, 5, 16, 7, 42, 180, 0, 222, 182, 1, 59, 154, 0, 5, 2, 172, 4, 60, 27, 42]
abbrev dktX1_best_0 : List UInt8 := dkwX1_best_0 ++ dktX1_best_1
theorem dksX1_best_0 : cX1_best.data.toList.drop 0 = dktX1_best_0 := by decide +kernel
theorem dksX1_best_1 : cX1_best.data.toList.drop 24 = dktX1_best_1 := dk_seg dksX1_best_0 24 rfl rfl
theorem dksX1_best_2 : cX1_best.data.toList.drop 48 = dktX1_best_2 := dk_seg dksX1_best_1 24 rfl rfl
theorem dksX1_best_3 : cX1_best.data.toList.drop 72 = dktX1_best_3 := dk_seg dksX1_best_2 24 rfl rfl
theorem dksX1_best_4 : cX1_best.data.toList.drop 96 = dktX1_best_4 := dk_seg dksX1_best_3 24 rfl rfl
theorem dX1_best_0 : decode cX1_best 0 = .ok (.aload_n 0, 1) := dk_42 (dk_at dksX1_best_0 0 rfl rfl)
theorem dX1_best_1 : decode cX1_best 1 = .ok (.invokevirtual 228, 3) := dk_182 0 228 (dk_at dksX1_best_0 1 rfl rfl)
theorem dX1_best_4 : decode cX1_best 4 = .ok (.aload_n 0, 1) := dk_42 (dk_at dksX1_best_0 4 rfl rfl)
theorem dX1_best_5 : decode cX1_best 5 = .ok (.iconst 2, 1) := dk_5 (dk_at dksX1_best_0 5 rfl rfl)
theorem dX1_best_6 : decode cX1_best 6 = .ok (.bipush 7, 2) := dk_16 7 (dk_at dksX1_best_0 6 rfl rfl)
theorem dX1_best_8 : decode cX1_best 8 = .ok (.aload_n 0, 1) := dk_42 (dk_at dksX1_best_0 8 rfl rfl)
theorem dX1_best_9 : decode cX1_best 9 = .ok (.getfield 222, 3) := dk_180 0 222 (dk_at dksX1_best_0 9 rfl rfl)
theorem dX1_best_12 : decode cX1_best 12 = .ok (.invokevirtual 315, 3) := dk_182 1 59 (dk_at dksX1_best_0 12 rfl rfl)
theorem dX1_best_15 : decode cX1_best 15 = .ok (.ifCond .ne 5, 3) := dk_154 0 5 (dk_at dksX1_best_0 15 rfl rfl)
theorem dX1_best_18 : decode cX1_best 18 = .ok (.iconst (-1), 1) := dk_2 (dk_at dksX1_best_0 18 rfl rfl)
theorem dX1_best_19 : decode cX1_best 19 = .ok (.ireturn, 1) := dk_172 (dk_at dksX1_best_0 19 rfl rfl)
theorem dX1_best_20 : decode cX1_best 20 = .ok (.iconst 1, 1) := dk_4 (dk_at dksX1_best_0 20 rfl rfl)
theorem dX1_best_21 : decode cX1_best 21 = .ok (.istore_n 1, 1) := dk_60 (dk_at dksX1_best_0 21 rfl rfl)
theorem dX1_best_22 : decode cX1_best 22 = .ok (.iload_n 1, 1) := dk_27 (dk_at dksX1_best_0 22 rfl rfl)
theorem dX1_best_23 : decode cX1_best 23 = .ok (.aload_n 0, 1) := dk_42 (dk_at dksX1_best_0 23 rfl rfl)
theorem dX1_best_24 : decode cX1_best 24 = .ok (.getfield 308, 3) := dk_180 1 52 (dk_at dksX1_best_1 0 rfl rfl)
theorem dX1_best_27 : decode cX1_best 27 = .ok (.if_icmp .ge 61, 3) := dk_162 0 61 (dk_at dksX1_best_1 3 rfl rfl)
theorem dX1_best_30 : decode cX1_best 30 = .ok (.aload_n 0, 1) := dk_42 (dk_at dksX1_best_1 6 rfl rfl)
theorem dX1_best_31 : decode cX1_best 31 = .ok (.getfield 135, 3) := dk_180 0 135 (dk_at dksX1_best_1 7 rfl rfl)
theorem dX1_best_34 : decode cX1_best 34 = .ok (.iload_n 1, 1) := dk_27 (dk_at dksX1_best_1 10 rfl rfl)
theorem dX1_best_35 : decode cX1_best 35 = .ok (.iaload, 1) := dk_46 (dk_at dksX1_best_1 11 rfl rfl)
theorem dX1_best_36 : decode cX1_best 36 = .ok (.istore_n 2, 1) := dk_61 (dk_at dksX1_best_1 12 rfl rfl)
theorem dX1_best_37 : decode cX1_best 37 = .ok (.iload_n 1, 1) := dk_27 (dk_at dksX1_best_1 13 rfl rfl)
theorem dX1_best_38 : decode cX1_best 38 = .ok (.istore_n 3, 1) := dk_62 (dk_at dksX1_best_1 14 rfl rfl)
theorem dX1_best_39 : decode cX1_best 39 = .ok (.iload_n 3, 1) := dk_29 (dk_at dksX1_best_1 15 rfl rfl)
theorem dX1_best_40 : decode cX1_best 40 = .ok (.ifCond .le 35, 3) := dk_158 0 35 (dk_at dksX1_best_1 16 rfl rfl)
theorem dX1_best_43 : decode cX1_best 43 = .ok (.aload_n 0, 1) := dk_42 (dk_at dksX1_best_1 19 rfl rfl)
theorem dX1_best_44 : decode cX1_best 44 = .ok (.getfield 135, 3) := dk_180 0 135 (dk_at dksX1_best_1 20 rfl rfl)
theorem dX1_best_47 : decode cX1_best 47 = .ok (.iload_n 3, 1) := dk_29 (dk_at dksX1_best_1 23 rfl rfl)
theorem dX1_best_48 : decode cX1_best 48 = .ok (.iconst 1, 1) := dk_4 (dk_at dksX1_best_2 0 rfl rfl)
theorem dX1_best_49 : decode cX1_best 49 = .ok (.isub, 1) := dk_100 (dk_at dksX1_best_2 1 rfl rfl)
theorem dX1_best_50 : decode cX1_best 50 = .ok (.iaload, 1) := dk_46 (dk_at dksX1_best_2 2 rfl rfl)
theorem dX1_best_51 : decode cX1_best 51 = .ok (.iload_n 2, 1) := dk_28 (dk_at dksX1_best_2 3 rfl rfl)
theorem dX1_best_52 : decode cX1_best 52 = .ok (.if_icmp .le 23, 3) := dk_164 0 23 (dk_at dksX1_best_2 4 rfl rfl)
theorem dX1_best_55 : decode cX1_best 55 = .ok (.aload_n 0, 1) := dk_42 (dk_at dksX1_best_2 7 rfl rfl)
theorem dX1_best_56 : decode cX1_best 56 = .ok (.getfield 135, 3) := dk_180 0 135 (dk_at dksX1_best_2 8 rfl rfl)
theorem dX1_best_59 : decode cX1_best 59 = .ok (.iload_n 3, 1) := dk_29 (dk_at dksX1_best_2 11 rfl rfl)
theorem dX1_best_60 : decode cX1_best 60 = .ok (.aload_n 0, 1) := dk_42 (dk_at dksX1_best_2 12 rfl rfl)
theorem dX1_best_61 : decode cX1_best 61 = .ok (.getfield 135, 3) := dk_180 0 135 (dk_at dksX1_best_2 13 rfl rfl)
theorem dX1_best_64 : decode cX1_best 64 = .ok (.iload_n 3, 1) := dk_29 (dk_at dksX1_best_2 16 rfl rfl)
theorem dX1_best_65 : decode cX1_best 65 = .ok (.iconst 1, 1) := dk_4 (dk_at dksX1_best_2 17 rfl rfl)
theorem dX1_best_66 : decode cX1_best 66 = .ok (.isub, 1) := dk_100 (dk_at dksX1_best_2 18 rfl rfl)
theorem dX1_best_67 : decode cX1_best 67 = .ok (.iaload, 1) := dk_46 (dk_at dksX1_best_2 19 rfl rfl)
theorem dX1_best_68 : decode cX1_best 68 = .ok (.iastore, 1) := dk_79 (dk_at dksX1_best_2 20 rfl rfl)
theorem dX1_best_69 : decode cX1_best 69 = .ok (.iinc 3 (-1), 3) := dk_132 3 255 (dk_at dksX1_best_2 21 rfl rfl)
theorem dX1_best_72 : decode cX1_best 72 = .ok (.goto (-33), 3) := dk_167 255 223 (dk_at dksX1_best_3 0 rfl rfl)
theorem dX1_best_75 : decode cX1_best 75 = .ok (.aload_n 0, 1) := dk_42 (dk_at dksX1_best_3 3 rfl rfl)
theorem dX1_best_76 : decode cX1_best 76 = .ok (.getfield 135, 3) := dk_180 0 135 (dk_at dksX1_best_3 4 rfl rfl)
theorem dX1_best_79 : decode cX1_best 79 = .ok (.iload_n 3, 1) := dk_29 (dk_at dksX1_best_3 7 rfl rfl)
theorem dX1_best_80 : decode cX1_best 80 = .ok (.iload_n 2, 1) := dk_28 (dk_at dksX1_best_3 8 rfl rfl)
theorem dX1_best_81 : decode cX1_best 81 = .ok (.iastore, 1) := dk_79 (dk_at dksX1_best_3 9 rfl rfl)
theorem dX1_best_82 : decode cX1_best 82 = .ok (.iinc 1 1, 3) := dk_132 1 1 (dk_at dksX1_best_3 10 rfl rfl)
theorem dX1_best_85 : decode cX1_best 85 = .ok (.goto (-63), 3) := dk_167 255 193 (dk_at dksX1_best_3 13 rfl rfl)
theorem dX1_best_88 : decode cX1_best 88 = .ok (.aload_n 0, 1) := dk_42 (dk_at dksX1_best_3 16 rfl rfl)
theorem dX1_best_89 : decode cX1_best 89 = .ok (.ldc_w 368, 3) := dk_19 1 112 (dk_at dksX1_best_3 17 rfl rfl)
theorem dX1_best_92 : decode cX1_best 92 = .ok (.putfield 369, 3) := dk_181 1 113 (dk_at dksX1_best_3 20 rfl rfl)
theorem dX1_best_95 : decode cX1_best 95 = .ok (.aload_n 0, 1) := dk_42 (dk_at dksX1_best_3 23 rfl rfl)
theorem dX1_best_96 : decode cX1_best 96 = .ok (.iconst 0, 1) := dk_3 (dk_at dksX1_best_4 0 rfl rfl)
theorem dX1_best_97 : decode cX1_best 97 = .ok (.iconst 0, 1) := dk_3 (dk_at dksX1_best_4 1 rfl rfl)
theorem dX1_best_98 : decode cX1_best 98 = .ok (.invokevirtual 372, 3) := dk_182 1 116 (dk_at dksX1_best_4 2 rfl rfl)
theorem dX1_best_101 : decode cX1_best 101 = .ok (.aload_n 0, 1) := dk_42 (dk_at dksX1_best_4 5 rfl rfl)
theorem dX1_best_102 : decode cX1_best 102 = .ok (.aload_n 0, 1) := dk_42 (dk_at dksX1_best_4 6 rfl rfl)
theorem dX1_best_103 : decode cX1_best 103 = .ok (.getfield 308, 3) := dk_180 1 52 (dk_at dksX1_best_4 7 rfl rfl)
theorem dX1_best_106 : decode cX1_best 106 = .ok (.putfield 376, 3) := dk_181 1 120 (dk_at dksX1_best_4 10 rfl rfl)
theorem dX1_best_109 : decode cX1_best 109 = .ok (.aload_n 0, 1) := dk_42 (dk_at dksX1_best_4 13 rfl rfl)
theorem dX1_best_110 : decode cX1_best 110 = .ok (.getfield 369, 3) := dk_180 1 113 (dk_at dksX1_best_4 14 rfl rfl)
theorem dX1_best_113 : decode cX1_best 113 = .ok (.ireturn, 1) := dk_172 (dk_at dksX1_best_4 17 rfl rfl)
abbrev cX1_orders : ByteArray := prog_1_method_24_code
def yX1_orders : MethodName := ⟨RX1, "orders", "(II)V"⟩
def dkwX1_orders_5 : List UInt8 := [167, 255, 209, 177]
abbrev dktX1_orders_5 : List UInt8 := dkwX1_orders_5 ++ []
def dkwX1_orders_4 : List UInt8 := [42, 180, 0, 135, 29, 46, 79, 42, 27, 4, 96, 28, 4, 29, 120, 128, 182, 1, 116, 132, 3, 1]
abbrev dktX1_orders_4 : List UInt8 := dkwX1_orders_4 ++ dktX1_orders_5
def dkwX1_orders_3 : List UInt8 := [42, 180, 1, 52, 162, 0, 45, 28, 29, 122, 4, 126, 4, 160, 0, 6, 167, 0, 27, 42, 180, 0, 145, 27]
abbrev dktX1_orders_3 : List UInt8 := dkwX1_orders_3 ++ dktX1_orders_4
def dkwX1_orders_2 : List UInt8 := [182, 1, 109, 181, 1, 113, 42, 180, 0, 145, 3, 42, 180, 0, 148, 3, 27, 184, 1, 103, 177, 3, 62, 29]
abbrev dktX1_orders_2 : List UInt8 := dkwX1_orders_2 ++ dktX1_orders_3
def dkwX1_orders_1 : List UInt8 := [3, 182, 1, 67, 42, 180, 0, 119, 182, 1, 109, 42, 180, 1, 113, 161, 0, 4, 177, 42, 42, 180, 0, 119]
abbrev dktX1_orders_1 : List UInt8 := dkwX1_orders_1 ++ dktX1_orders_2
def dkwX1_orders_0 : List UInt8 := [27, 42, 180, 1, 52, 160, 0, 64, 42, 180, 0, 119, 42, 180, 0, 96, 180, 0, 241, 42, 180, 0, 145, 27]
abbrev dktX1_orders_0 : List UInt8 := dkwX1_orders_0 ++ dktX1_orders_1
theorem dksX1_orders_0 : cX1_orders.data.toList.drop 0 = dktX1_orders_0 := by decide +kernel
theorem dksX1_orders_1 : cX1_orders.data.toList.drop 24 = dktX1_orders_1 := dk_seg dksX1_orders_0 24 rfl rfl
theorem dksX1_orders_2 : cX1_orders.data.toList.drop 48 = dktX1_orders_2 := dk_seg dksX1_orders_1 24 rfl rfl
theorem dksX1_orders_3 : cX1_orders.data.toList.drop 72 = dktX1_orders_3 := dk_seg dksX1_orders_2 24 rfl rfl
theorem dksX1_orders_4 : cX1_orders.data.toList.drop 96 = dktX1_orders_4 := dk_seg dksX1_orders_3 24 rfl rfl
theorem dksX1_orders_5 : cX1_orders.data.toList.drop 118 = dktX1_orders_5 := dk_seg dksX1_orders_4 22 rfl rfl
theorem dX1_orders_0 : decode cX1_orders 0 = .ok (.iload_n 1, 1) := dk_27 (dk_at dksX1_orders_0 0 rfl rfl)
theorem dX1_orders_1 : decode cX1_orders 1 = .ok (.aload_n 0, 1) := dk_42 (dk_at dksX1_orders_0 1 rfl rfl)
theorem dX1_orders_2 : decode cX1_orders 2 = .ok (.getfield 308, 3) := dk_180 1 52 (dk_at dksX1_orders_0 2 rfl rfl)
theorem dX1_orders_5 : decode cX1_orders 5 = .ok (.if_icmp .ne 64, 3) := dk_160 0 64 (dk_at dksX1_orders_0 5 rfl rfl)
theorem dX1_orders_8 : decode cX1_orders 8 = .ok (.aload_n 0, 1) := dk_42 (dk_at dksX1_orders_0 8 rfl rfl)
theorem dX1_orders_9 : decode cX1_orders 9 = .ok (.getfield 119, 3) := dk_180 0 119 (dk_at dksX1_orders_0 9 rfl rfl)
theorem dX1_orders_12 : decode cX1_orders 12 = .ok (.aload_n 0, 1) := dk_42 (dk_at dksX1_orders_0 12 rfl rfl)
theorem dX1_orders_13 : decode cX1_orders 13 = .ok (.getfield 96, 3) := dk_180 0 96 (dk_at dksX1_orders_0 13 rfl rfl)
theorem dX1_orders_16 : decode cX1_orders 16 = .ok (.getfield 241, 3) := dk_180 0 241 (dk_at dksX1_orders_0 16 rfl rfl)
theorem dX1_orders_19 : decode cX1_orders 19 = .ok (.aload_n 0, 1) := dk_42 (dk_at dksX1_orders_0 19 rfl rfl)
theorem dX1_orders_20 : decode cX1_orders 20 = .ok (.getfield 145, 3) := dk_180 0 145 (dk_at dksX1_orders_0 20 rfl rfl)
theorem dX1_orders_23 : decode cX1_orders 23 = .ok (.iload_n 1, 1) := dk_27 (dk_at dksX1_orders_0 23 rfl rfl)
theorem dX1_orders_24 : decode cX1_orders 24 = .ok (.iconst 0, 1) := dk_3 (dk_at dksX1_orders_1 0 rfl rfl)
theorem dX1_orders_25 : decode cX1_orders 25 = .ok (.invokevirtual 323, 3) := dk_182 1 67 (dk_at dksX1_orders_1 1 rfl rfl)
theorem dX1_orders_28 : decode cX1_orders 28 = .ok (.aload_n 0, 1) := dk_42 (dk_at dksX1_orders_1 4 rfl rfl)
theorem dX1_orders_29 : decode cX1_orders 29 = .ok (.getfield 119, 3) := dk_180 0 119 (dk_at dksX1_orders_1 5 rfl rfl)
theorem dX1_orders_32 : decode cX1_orders 32 = .ok (.invokevirtual 365, 3) := dk_182 1 109 (dk_at dksX1_orders_1 8 rfl rfl)
theorem dX1_orders_35 : decode cX1_orders 35 = .ok (.aload_n 0, 1) := dk_42 (dk_at dksX1_orders_1 11 rfl rfl)
theorem dX1_orders_36 : decode cX1_orders 36 = .ok (.getfield 369, 3) := dk_180 1 113 (dk_at dksX1_orders_1 12 rfl rfl)
theorem dX1_orders_39 : decode cX1_orders 39 = .ok (.if_icmp .lt 4, 3) := dk_161 0 4 (dk_at dksX1_orders_1 15 rfl rfl)
theorem dX1_orders_42 : decode cX1_orders 42 = .ok (.return_, 1) := dk_177 (dk_at dksX1_orders_1 18 rfl rfl)
theorem dX1_orders_43 : decode cX1_orders 43 = .ok (.aload_n 0, 1) := dk_42 (dk_at dksX1_orders_1 19 rfl rfl)
theorem dX1_orders_44 : decode cX1_orders 44 = .ok (.aload_n 0, 1) := dk_42 (dk_at dksX1_orders_1 20 rfl rfl)
theorem dX1_orders_45 : decode cX1_orders 45 = .ok (.getfield 119, 3) := dk_180 0 119 (dk_at dksX1_orders_1 21 rfl rfl)
theorem dX1_orders_48 : decode cX1_orders 48 = .ok (.invokevirtual 365, 3) := dk_182 1 109 (dk_at dksX1_orders_2 0 rfl rfl)
theorem dX1_orders_51 : decode cX1_orders 51 = .ok (.putfield 369, 3) := dk_181 1 113 (dk_at dksX1_orders_2 3 rfl rfl)
theorem dX1_orders_54 : decode cX1_orders 54 = .ok (.aload_n 0, 1) := dk_42 (dk_at dksX1_orders_2 6 rfl rfl)
theorem dX1_orders_55 : decode cX1_orders 55 = .ok (.getfield 145, 3) := dk_180 0 145 (dk_at dksX1_orders_2 7 rfl rfl)
theorem dX1_orders_58 : decode cX1_orders 58 = .ok (.iconst 0, 1) := dk_3 (dk_at dksX1_orders_2 10 rfl rfl)
theorem dX1_orders_59 : decode cX1_orders 59 = .ok (.aload_n 0, 1) := dk_42 (dk_at dksX1_orders_2 11 rfl rfl)
theorem dX1_orders_60 : decode cX1_orders 60 = .ok (.getfield 148, 3) := dk_180 0 148 (dk_at dksX1_orders_2 12 rfl rfl)
theorem dX1_orders_63 : decode cX1_orders 63 = .ok (.iconst 0, 1) := dk_3 (dk_at dksX1_orders_2 15 rfl rfl)
theorem dX1_orders_64 : decode cX1_orders 64 = .ok (.iload_n 1, 1) := dk_27 (dk_at dksX1_orders_2 16 rfl rfl)
theorem dX1_orders_65 : decode cX1_orders 65 = .ok (.invokestatic 359, 3) := dk_184 1 103 (dk_at dksX1_orders_2 17 rfl rfl)
theorem dX1_orders_68 : decode cX1_orders 68 = .ok (.return_, 1) := dk_177 (dk_at dksX1_orders_2 20 rfl rfl)
theorem dX1_orders_69 : decode cX1_orders 69 = .ok (.iconst 0, 1) := dk_3 (dk_at dksX1_orders_2 21 rfl rfl)
theorem dX1_orders_70 : decode cX1_orders 70 = .ok (.istore_n 3, 1) := dk_62 (dk_at dksX1_orders_2 22 rfl rfl)
theorem dX1_orders_71 : decode cX1_orders 71 = .ok (.iload_n 3, 1) := dk_29 (dk_at dksX1_orders_2 23 rfl rfl)
theorem dX1_orders_72 : decode cX1_orders 72 = .ok (.aload_n 0, 1) := dk_42 (dk_at dksX1_orders_3 0 rfl rfl)
theorem dX1_orders_73 : decode cX1_orders 73 = .ok (.getfield 308, 3) := dk_180 1 52 (dk_at dksX1_orders_3 1 rfl rfl)
theorem dX1_orders_76 : decode cX1_orders 76 = .ok (.if_icmp .ge 45, 3) := dk_162 0 45 (dk_at dksX1_orders_3 4 rfl rfl)
theorem dX1_orders_79 : decode cX1_orders 79 = .ok (.iload_n 2, 1) := dk_28 (dk_at dksX1_orders_3 7 rfl rfl)
theorem dX1_orders_80 : decode cX1_orders 80 = .ok (.iload_n 3, 1) := dk_29 (dk_at dksX1_orders_3 8 rfl rfl)
theorem dX1_orders_81 : decode cX1_orders 81 = .ok (.ishr, 1) := dk_122 (dk_at dksX1_orders_3 9 rfl rfl)
theorem dX1_orders_82 : decode cX1_orders 82 = .ok (.iconst 1, 1) := dk_4 (dk_at dksX1_orders_3 10 rfl rfl)
theorem dX1_orders_83 : decode cX1_orders 83 = .ok (.iand, 1) := dk_126 (dk_at dksX1_orders_3 11 rfl rfl)
theorem dX1_orders_84 : decode cX1_orders 84 = .ok (.iconst 1, 1) := dk_4 (dk_at dksX1_orders_3 12 rfl rfl)
theorem dX1_orders_85 : decode cX1_orders 85 = .ok (.if_icmp .ne 6, 3) := dk_160 0 6 (dk_at dksX1_orders_3 13 rfl rfl)
theorem dX1_orders_88 : decode cX1_orders 88 = .ok (.goto 27, 3) := dk_167 0 27 (dk_at dksX1_orders_3 16 rfl rfl)
theorem dX1_orders_91 : decode cX1_orders 91 = .ok (.aload_n 0, 1) := dk_42 (dk_at dksX1_orders_3 19 rfl rfl)
theorem dX1_orders_92 : decode cX1_orders 92 = .ok (.getfield 145, 3) := dk_180 0 145 (dk_at dksX1_orders_3 20 rfl rfl)
theorem dX1_orders_95 : decode cX1_orders 95 = .ok (.iload_n 1, 1) := dk_27 (dk_at dksX1_orders_3 23 rfl rfl)
theorem dX1_orders_96 : decode cX1_orders 96 = .ok (.aload_n 0, 1) := dk_42 (dk_at dksX1_orders_4 0 rfl rfl)
theorem dX1_orders_97 : decode cX1_orders 97 = .ok (.getfield 135, 3) := dk_180 0 135 (dk_at dksX1_orders_4 1 rfl rfl)
theorem dX1_orders_100 : decode cX1_orders 100 = .ok (.iload_n 3, 1) := dk_29 (dk_at dksX1_orders_4 4 rfl rfl)
theorem dX1_orders_101 : decode cX1_orders 101 = .ok (.iaload, 1) := dk_46 (dk_at dksX1_orders_4 5 rfl rfl)
theorem dX1_orders_102 : decode cX1_orders 102 = .ok (.iastore, 1) := dk_79 (dk_at dksX1_orders_4 6 rfl rfl)
theorem dX1_orders_103 : decode cX1_orders 103 = .ok (.aload_n 0, 1) := dk_42 (dk_at dksX1_orders_4 7 rfl rfl)
theorem dX1_orders_104 : decode cX1_orders 104 = .ok (.iload_n 1, 1) := dk_27 (dk_at dksX1_orders_4 8 rfl rfl)
theorem dX1_orders_105 : decode cX1_orders 105 = .ok (.iconst 1, 1) := dk_4 (dk_at dksX1_orders_4 9 rfl rfl)
theorem dX1_orders_106 : decode cX1_orders 106 = .ok (.iadd, 1) := dk_96 (dk_at dksX1_orders_4 10 rfl rfl)
theorem dX1_orders_107 : decode cX1_orders 107 = .ok (.iload_n 2, 1) := dk_28 (dk_at dksX1_orders_4 11 rfl rfl)
theorem dX1_orders_108 : decode cX1_orders 108 = .ok (.iconst 1, 1) := dk_4 (dk_at dksX1_orders_4 12 rfl rfl)
theorem dX1_orders_109 : decode cX1_orders 109 = .ok (.iload_n 3, 1) := dk_29 (dk_at dksX1_orders_4 13 rfl rfl)
theorem dX1_orders_110 : decode cX1_orders 110 = .ok (.ishl, 1) := dk_120 (dk_at dksX1_orders_4 14 rfl rfl)
theorem dX1_orders_111 : decode cX1_orders 111 = .ok (.ior, 1) := dk_128 (dk_at dksX1_orders_4 15 rfl rfl)
theorem dX1_orders_112 : decode cX1_orders 112 = .ok (.invokevirtual 372, 3) := dk_182 1 116 (dk_at dksX1_orders_4 16 rfl rfl)
theorem dX1_orders_115 : decode cX1_orders 115 = .ok (.iinc 3 1, 3) := dk_132 3 1 (dk_at dksX1_orders_4 19 rfl rfl)
theorem dX1_orders_118 : decode cX1_orders 118 = .ok (.goto (-47), 3) := dk_167 255 209 (dk_at dksX1_orders_5 0 rfl rfl)
theorem dX1_orders_121 : decode cX1_orders 121 = .ok (.return_, 1) := dk_177 (dk_at dksX1_orders_5 3 rfl rfl)
abbrev cX1_bestAt : ByteArray := prog_1_method_25_code
def yX1_bestAt : MethodName := ⟨RX1, "bestAt", "(I)I"⟩
def dkwX1_bestAt_1 : List UInt8 := [172]
abbrev dktX1_bestAt_1 : List UInt8 := dkwX1_bestAt_1 ++ []
def dkwX1_bestAt_0 : List UInt8 := [27, 3, 42, 180, 1, 120, 4, 100, 184, 1, 15, 153, 0, 12, 42, 180, 0, 148, 27, 46, 167, 0, 4, 2]
abbrev dktX1_bestAt_0 : List UInt8 := dkwX1_bestAt_0 ++ dktX1_bestAt_1
theorem dksX1_bestAt_0 : cX1_bestAt.data.toList.drop 0 = dktX1_bestAt_0 := by decide +kernel
theorem dksX1_bestAt_1 : cX1_bestAt.data.toList.drop 24 = dktX1_bestAt_1 := dk_seg dksX1_bestAt_0 24 rfl rfl
theorem dX1_bestAt_0 : decode cX1_bestAt 0 = .ok (.iload_n 1, 1) := dk_27 (dk_at dksX1_bestAt_0 0 rfl rfl)
theorem dX1_bestAt_1 : decode cX1_bestAt 1 = .ok (.iconst 0, 1) := dk_3 (dk_at dksX1_bestAt_0 1 rfl rfl)
theorem dX1_bestAt_2 : decode cX1_bestAt 2 = .ok (.aload_n 0, 1) := dk_42 (dk_at dksX1_bestAt_0 2 rfl rfl)
theorem dX1_bestAt_3 : decode cX1_bestAt 3 = .ok (.getfield 376, 3) := dk_180 1 120 (dk_at dksX1_bestAt_0 3 rfl rfl)
theorem dX1_bestAt_6 : decode cX1_bestAt 6 = .ok (.iconst 1, 1) := dk_4 (dk_at dksX1_bestAt_0 6 rfl rfl)
theorem dX1_bestAt_7 : decode cX1_bestAt 7 = .ok (.isub, 1) := dk_100 (dk_at dksX1_bestAt_0 7 rfl rfl)
theorem dX1_bestAt_8 : decode cX1_bestAt 8 = .ok (.invokestatic 271, 3) := dk_184 1 15 (dk_at dksX1_bestAt_0 8 rfl rfl)
theorem dX1_bestAt_11 : decode cX1_bestAt 11 = .ok (.ifCond .eq 12, 3) := dk_153 0 12 (dk_at dksX1_bestAt_0 11 rfl rfl)
theorem dX1_bestAt_14 : decode cX1_bestAt 14 = .ok (.aload_n 0, 1) := dk_42 (dk_at dksX1_bestAt_0 14 rfl rfl)
theorem dX1_bestAt_15 : decode cX1_bestAt 15 = .ok (.getfield 148, 3) := dk_180 0 148 (dk_at dksX1_bestAt_0 15 rfl rfl)
theorem dX1_bestAt_18 : decode cX1_bestAt 18 = .ok (.iload_n 1, 1) := dk_27 (dk_at dksX1_bestAt_0 18 rfl rfl)
theorem dX1_bestAt_19 : decode cX1_bestAt 19 = .ok (.iaload, 1) := dk_46 (dk_at dksX1_bestAt_0 19 rfl rfl)
theorem dX1_bestAt_20 : decode cX1_bestAt 20 = .ok (.goto 4, 3) := dk_167 0 4 (dk_at dksX1_bestAt_0 20 rfl rfl)
theorem dX1_bestAt_23 : decode cX1_bestAt 23 = .ok (.iconst (-1), 1) := dk_2 (dk_at dksX1_bestAt_0 23 rfl rfl)
theorem dX1_bestAt_24 : decode cX1_bestAt 24 = .ok (.ireturn, 1) := dk_172 (dk_at dksX1_bestAt_1 0 rfl rfl)
abbrev cX1_running : ByteArray := prog_1_method_28_code
def yX1_running : MethodName := ⟨RX1, "running", "(I)I"⟩
def dkwX1_running_1 : List UInt8 := [153, 0, 19, 42, 42, 180, 0, 135, 42, 180, 1, 52, 27, 182, 1, 125, 167, 0, 4, 2, 172]
abbrev dktX1_running_1 : List UInt8 := dkwX1_running_1 ++ []
def dkwX1_running_0 : List UInt8 := [42, 182, 0, 228, 42, 4, 16, 12, 42, 180, 0, 222, 182, 1, 59, 153, 0, 26, 27, 184, 1, 62]
abbrev dktX1_running_0 : List UInt8 := dkwX1_running_0 ++ dktX1_running_1
theorem dksX1_running_0 : cX1_running.data.toList.drop 0 = dktX1_running_0 := by decide +kernel
theorem dksX1_running_1 : cX1_running.data.toList.drop 22 = dktX1_running_1 := dk_seg dksX1_running_0 22 rfl rfl
theorem dX1_running_0 : decode cX1_running 0 = .ok (.aload_n 0, 1) := dk_42 (dk_at dksX1_running_0 0 rfl rfl)
theorem dX1_running_1 : decode cX1_running 1 = .ok (.invokevirtual 228, 3) := dk_182 0 228 (dk_at dksX1_running_0 1 rfl rfl)
theorem dX1_running_4 : decode cX1_running 4 = .ok (.aload_n 0, 1) := dk_42 (dk_at dksX1_running_0 4 rfl rfl)
theorem dX1_running_5 : decode cX1_running 5 = .ok (.iconst 1, 1) := dk_4 (dk_at dksX1_running_0 5 rfl rfl)
theorem dX1_running_6 : decode cX1_running 6 = .ok (.bipush 12, 2) := dk_16 12 (dk_at dksX1_running_0 6 rfl rfl)
theorem dX1_running_8 : decode cX1_running 8 = .ok (.aload_n 0, 1) := dk_42 (dk_at dksX1_running_0 8 rfl rfl)
theorem dX1_running_9 : decode cX1_running 9 = .ok (.getfield 222, 3) := dk_180 0 222 (dk_at dksX1_running_0 9 rfl rfl)
theorem dX1_running_12 : decode cX1_running 12 = .ok (.invokevirtual 315, 3) := dk_182 1 59 (dk_at dksX1_running_0 12 rfl rfl)
theorem dX1_running_15 : decode cX1_running 15 = .ok (.ifCond .eq 26, 3) := dk_153 0 26 (dk_at dksX1_running_0 15 rfl rfl)
theorem dX1_running_18 : decode cX1_running 18 = .ok (.iload_n 1, 1) := dk_27 (dk_at dksX1_running_0 18 rfl rfl)
theorem dX1_running_19 : decode cX1_running 19 = .ok (.invokestatic 318, 3) := dk_184 1 62 (dk_at dksX1_running_0 19 rfl rfl)
theorem dX1_running_22 : decode cX1_running 22 = .ok (.ifCond .eq 19, 3) := dk_153 0 19 (dk_at dksX1_running_1 0 rfl rfl)
theorem dX1_running_25 : decode cX1_running 25 = .ok (.aload_n 0, 1) := dk_42 (dk_at dksX1_running_1 3 rfl rfl)
theorem dX1_running_26 : decode cX1_running 26 = .ok (.aload_n 0, 1) := dk_42 (dk_at dksX1_running_1 4 rfl rfl)
theorem dX1_running_27 : decode cX1_running 27 = .ok (.getfield 135, 3) := dk_180 0 135 (dk_at dksX1_running_1 5 rfl rfl)
theorem dX1_running_30 : decode cX1_running 30 = .ok (.aload_n 0, 1) := dk_42 (dk_at dksX1_running_1 8 rfl rfl)
theorem dX1_running_31 : decode cX1_running 31 = .ok (.getfield 308, 3) := dk_180 1 52 (dk_at dksX1_running_1 9 rfl rfl)
theorem dX1_running_34 : decode cX1_running 34 = .ok (.iload_n 1, 1) := dk_27 (dk_at dksX1_running_1 12 rfl rfl)
theorem dX1_running_35 : decode cX1_running 35 = .ok (.invokevirtual 381, 3) := dk_182 1 125 (dk_at dksX1_running_1 13 rfl rfl)
theorem dX1_running_38 : decode cX1_running 38 = .ok (.goto 4, 3) := dk_167 0 4 (dk_at dksX1_running_1 16 rfl rfl)
theorem dX1_running_41 : decode cX1_running 41 = .ok (.iconst (-1), 1) := dk_2 (dk_at dksX1_running_1 19 rfl rfl)
theorem dX1_running_42 : decode cX1_running 42 = .ok (.ireturn, 1) := dk_172 (dk_at dksX1_running_1 20 rfl rfl)
abbrev cX1_runs : ByteArray := prog_1_method_26_code
def yX1_runs : MethodName := ⟨RX1, "runs", "([III)I"⟩
def dkwX1_runs_1 : List UInt8 := [182, 1, 123, 42, 180, 0, 128, 29, 182, 1, 124, 172]
abbrev dktX1_runs_1 : List UInt8 := dkwX1_runs_1 ++ []
def dkwX1_runs_0 : List UInt8 := [42, 180, 0, 128, 42, 180, 0, 96, 180, 0, 241, 43, 28, 42, 180, 0, 96, 180, 0, 241, 180, 1, 65]
abbrev dktX1_runs_0 : List UInt8 := dkwX1_runs_0 ++ dktX1_runs_1
theorem dksX1_runs_0 : cX1_runs.data.toList.drop 0 = dktX1_runs_0 := by decide +kernel
theorem dksX1_runs_1 : cX1_runs.data.toList.drop 23 = dktX1_runs_1 := dk_seg dksX1_runs_0 23 rfl rfl
theorem dX1_runs_0 : decode cX1_runs 0 = .ok (.aload_n 0, 1) := dk_42 (dk_at dksX1_runs_0 0 rfl rfl)
theorem dX1_runs_1 : decode cX1_runs 1 = .ok (.getfield 128, 3) := dk_180 0 128 (dk_at dksX1_runs_0 1 rfl rfl)
theorem dX1_runs_4 : decode cX1_runs 4 = .ok (.aload_n 0, 1) := dk_42 (dk_at dksX1_runs_0 4 rfl rfl)
theorem dX1_runs_5 : decode cX1_runs 5 = .ok (.getfield 96, 3) := dk_180 0 96 (dk_at dksX1_runs_0 5 rfl rfl)
theorem dX1_runs_8 : decode cX1_runs 8 = .ok (.getfield 241, 3) := dk_180 0 241 (dk_at dksX1_runs_0 8 rfl rfl)
theorem dX1_runs_11 : decode cX1_runs 11 = .ok (.aload_n 1, 1) := dk_43 (dk_at dksX1_runs_0 11 rfl rfl)
theorem dX1_runs_12 : decode cX1_runs 12 = .ok (.iload_n 2, 1) := dk_28 (dk_at dksX1_runs_0 12 rfl rfl)
theorem dX1_runs_13 : decode cX1_runs 13 = .ok (.aload_n 0, 1) := dk_42 (dk_at dksX1_runs_0 13 rfl rfl)
theorem dX1_runs_14 : decode cX1_runs 14 = .ok (.getfield 96, 3) := dk_180 0 96 (dk_at dksX1_runs_0 14 rfl rfl)
theorem dX1_runs_17 : decode cX1_runs 17 = .ok (.getfield 241, 3) := dk_180 0 241 (dk_at dksX1_runs_0 17 rfl rfl)
theorem dX1_runs_20 : decode cX1_runs 20 = .ok (.getfield 321, 3) := dk_180 1 65 (dk_at dksX1_runs_0 20 rfl rfl)
theorem dX1_runs_23 : decode cX1_runs 23 = .ok (.invokevirtual 379, 3) := dk_182 1 123 (dk_at dksX1_runs_1 0 rfl rfl)
theorem dX1_runs_26 : decode cX1_runs 26 = .ok (.aload_n 0, 1) := dk_42 (dk_at dksX1_runs_1 3 rfl rfl)
theorem dX1_runs_27 : decode cX1_runs 27 = .ok (.getfield 128, 3) := dk_180 0 128 (dk_at dksX1_runs_1 4 rfl rfl)
theorem dX1_runs_30 : decode cX1_runs 30 = .ok (.iload_n 3, 1) := dk_29 (dk_at dksX1_runs_1 7 rfl rfl)
theorem dX1_runs_31 : decode cX1_runs 31 = .ok (.invokevirtual 380, 3) := dk_182 1 124 (dk_at dksX1_runs_1 8 rfl rfl)
theorem dX1_runs_34 : decode cX1_runs 34 = .ok (.ireturn, 1) := dk_172 (dk_at dksX1_runs_1 11 rfl rfl)
abbrev cX1_line : ByteArray := prog_1_method_29_code
def yX1_line : MethodName := ⟨RX1, "line", "(I)I"⟩
def dkwX1_line_3 : List UInt8 := [27, 182, 1, 125, 164, 0, 5, 28, 172, 132, 2, 1, 167, 255, 204, 2, 172]
abbrev dktX1_line_3 : List UInt8 := dkwX1_line_3 ++ []
def dkwX1_line_2 : List UInt8 := [180, 0, 151, 28, 27, 42, 180, 0, 96, 180, 0, 241, 180, 1, 65, 182, 1, 129, 42, 42, 180, 0, 151, 28]
abbrev dktX1_line_2 : List UInt8 := dkwX1_line_2 ++ dktX1_line_3
def dkwX1_line_1 : List UInt8 := [132, 2, 1, 167, 255, 240, 5, 61, 28, 42, 180, 0, 96, 180, 0, 241, 180, 1, 12, 163, 0, 44, 42, 42]
abbrev dktX1_line_1 : List UInt8 := dkwX1_line_1 ++ dktX1_line_2
def dkwX1_line_0 : List UInt8 := [27, 184, 1, 62, 154, 0, 5, 2, 172, 3, 61, 28, 16, 12, 162, 0, 16, 42, 180, 0, 151, 28, 28, 79]
abbrev dktX1_line_0 : List UInt8 := dkwX1_line_0 ++ dktX1_line_1
theorem dksX1_line_0 : cX1_line.data.toList.drop 0 = dktX1_line_0 := by decide +kernel
theorem dksX1_line_1 : cX1_line.data.toList.drop 24 = dktX1_line_1 := dk_seg dksX1_line_0 24 rfl rfl
theorem dksX1_line_2 : cX1_line.data.toList.drop 48 = dktX1_line_2 := dk_seg dksX1_line_1 24 rfl rfl
theorem dksX1_line_3 : cX1_line.data.toList.drop 72 = dktX1_line_3 := dk_seg dksX1_line_2 24 rfl rfl
theorem dX1_line_0 : decode cX1_line 0 = .ok (.iload_n 1, 1) := dk_27 (dk_at dksX1_line_0 0 rfl rfl)
theorem dX1_line_1 : decode cX1_line 1 = .ok (.invokestatic 318, 3) := dk_184 1 62 (dk_at dksX1_line_0 1 rfl rfl)
theorem dX1_line_4 : decode cX1_line 4 = .ok (.ifCond .ne 5, 3) := dk_154 0 5 (dk_at dksX1_line_0 4 rfl rfl)
theorem dX1_line_7 : decode cX1_line 7 = .ok (.iconst (-1), 1) := dk_2 (dk_at dksX1_line_0 7 rfl rfl)
theorem dX1_line_8 : decode cX1_line 8 = .ok (.ireturn, 1) := dk_172 (dk_at dksX1_line_0 8 rfl rfl)
theorem dX1_line_9 : decode cX1_line 9 = .ok (.iconst 0, 1) := dk_3 (dk_at dksX1_line_0 9 rfl rfl)
theorem dX1_line_10 : decode cX1_line 10 = .ok (.istore_n 2, 1) := dk_61 (dk_at dksX1_line_0 10 rfl rfl)
theorem dX1_line_11 : decode cX1_line 11 = .ok (.iload_n 2, 1) := dk_28 (dk_at dksX1_line_0 11 rfl rfl)
theorem dX1_line_12 : decode cX1_line 12 = .ok (.bipush 12, 2) := dk_16 12 (dk_at dksX1_line_0 12 rfl rfl)
theorem dX1_line_14 : decode cX1_line 14 = .ok (.if_icmp .ge 16, 3) := dk_162 0 16 (dk_at dksX1_line_0 14 rfl rfl)
theorem dX1_line_17 : decode cX1_line 17 = .ok (.aload_n 0, 1) := dk_42 (dk_at dksX1_line_0 17 rfl rfl)
theorem dX1_line_18 : decode cX1_line 18 = .ok (.getfield 151, 3) := dk_180 0 151 (dk_at dksX1_line_0 18 rfl rfl)
theorem dX1_line_21 : decode cX1_line 21 = .ok (.iload_n 2, 1) := dk_28 (dk_at dksX1_line_0 21 rfl rfl)
theorem dX1_line_22 : decode cX1_line 22 = .ok (.iload_n 2, 1) := dk_28 (dk_at dksX1_line_0 22 rfl rfl)
theorem dX1_line_23 : decode cX1_line 23 = .ok (.iastore, 1) := dk_79 (dk_at dksX1_line_0 23 rfl rfl)
theorem dX1_line_24 : decode cX1_line 24 = .ok (.iinc 2 1, 3) := dk_132 2 1 (dk_at dksX1_line_1 0 rfl rfl)
theorem dX1_line_27 : decode cX1_line 27 = .ok (.goto (-16), 3) := dk_167 255 240 (dk_at dksX1_line_1 3 rfl rfl)
theorem dX1_line_30 : decode cX1_line 30 = .ok (.iconst 2, 1) := dk_5 (dk_at dksX1_line_1 6 rfl rfl)
theorem dX1_line_31 : decode cX1_line 31 = .ok (.istore_n 2, 1) := dk_61 (dk_at dksX1_line_1 7 rfl rfl)
theorem dX1_line_32 : decode cX1_line 32 = .ok (.iload_n 2, 1) := dk_28 (dk_at dksX1_line_1 8 rfl rfl)
theorem dX1_line_33 : decode cX1_line 33 = .ok (.aload_n 0, 1) := dk_42 (dk_at dksX1_line_1 9 rfl rfl)
theorem dX1_line_34 : decode cX1_line 34 = .ok (.getfield 96, 3) := dk_180 0 96 (dk_at dksX1_line_1 10 rfl rfl)
theorem dX1_line_37 : decode cX1_line 37 = .ok (.getfield 241, 3) := dk_180 0 241 (dk_at dksX1_line_1 13 rfl rfl)
theorem dX1_line_40 : decode cX1_line 40 = .ok (.getfield 268, 3) := dk_180 1 12 (dk_at dksX1_line_1 16 rfl rfl)
theorem dX1_line_43 : decode cX1_line 43 = .ok (.if_icmp .gt 44, 3) := dk_163 0 44 (dk_at dksX1_line_1 19 rfl rfl)
theorem dX1_line_46 : decode cX1_line 46 = .ok (.aload_n 0, 1) := dk_42 (dk_at dksX1_line_1 22 rfl rfl)
theorem dX1_line_47 : decode cX1_line 47 = .ok (.aload_n 0, 1) := dk_42 (dk_at dksX1_line_1 23 rfl rfl)
theorem dX1_line_48 : decode cX1_line 48 = .ok (.getfield 151, 3) := dk_180 0 151 (dk_at dksX1_line_2 0 rfl rfl)
theorem dX1_line_51 : decode cX1_line 51 = .ok (.iload_n 2, 1) := dk_28 (dk_at dksX1_line_2 3 rfl rfl)
theorem dX1_line_52 : decode cX1_line 52 = .ok (.iload_n 1, 1) := dk_27 (dk_at dksX1_line_2 4 rfl rfl)
theorem dX1_line_53 : decode cX1_line 53 = .ok (.aload_n 0, 1) := dk_42 (dk_at dksX1_line_2 5 rfl rfl)
theorem dX1_line_54 : decode cX1_line 54 = .ok (.getfield 96, 3) := dk_180 0 96 (dk_at dksX1_line_2 6 rfl rfl)
theorem dX1_line_57 : decode cX1_line 57 = .ok (.getfield 241, 3) := dk_180 0 241 (dk_at dksX1_line_2 9 rfl rfl)
theorem dX1_line_60 : decode cX1_line 60 = .ok (.getfield 321, 3) := dk_180 1 65 (dk_at dksX1_line_2 12 rfl rfl)
theorem dX1_line_63 : decode cX1_line 63 = .ok (.invokevirtual 385, 3) := dk_182 1 129 (dk_at dksX1_line_2 15 rfl rfl)
theorem dX1_line_66 : decode cX1_line 66 = .ok (.aload_n 0, 1) := dk_42 (dk_at dksX1_line_2 18 rfl rfl)
theorem dX1_line_67 : decode cX1_line 67 = .ok (.aload_n 0, 1) := dk_42 (dk_at dksX1_line_2 19 rfl rfl)
theorem dX1_line_68 : decode cX1_line 68 = .ok (.getfield 151, 3) := dk_180 0 151 (dk_at dksX1_line_2 20 rfl rfl)
theorem dX1_line_71 : decode cX1_line 71 = .ok (.iload_n 2, 1) := dk_28 (dk_at dksX1_line_2 23 rfl rfl)
theorem dX1_line_72 : decode cX1_line 72 = .ok (.iload_n 1, 1) := dk_27 (dk_at dksX1_line_3 0 rfl rfl)
theorem dX1_line_73 : decode cX1_line 73 = .ok (.invokevirtual 381, 3) := dk_182 1 125 (dk_at dksX1_line_3 1 rfl rfl)
theorem dX1_line_76 : decode cX1_line 76 = .ok (.if_icmp .le 5, 3) := dk_164 0 5 (dk_at dksX1_line_3 4 rfl rfl)
theorem dX1_line_79 : decode cX1_line 79 = .ok (.iload_n 2, 1) := dk_28 (dk_at dksX1_line_3 7 rfl rfl)
theorem dX1_line_80 : decode cX1_line 80 = .ok (.ireturn, 1) := dk_172 (dk_at dksX1_line_3 8 rfl rfl)
theorem dX1_line_81 : decode cX1_line 81 = .ok (.iinc 2 1, 3) := dk_132 2 1 (dk_at dksX1_line_3 9 rfl rfl)
theorem dX1_line_84 : decode cX1_line 84 = .ok (.goto (-52), 3) := dk_167 255 204 (dk_at dksX1_line_3 12 rfl rfl)
theorem dX1_line_87 : decode cX1_line 87 = .ok (.iconst (-1), 1) := dk_2 (dk_at dksX1_line_3 15 rfl rfl)
theorem dX1_line_88 : decode cX1_line 88 = .ok (.ireturn, 1) := dk_172 (dk_at dksX1_line_3 16 rfl rfl)
abbrev cX1_rows : ByteArray := prog_1_method_27_code
def yX1_rows : MethodName := ⟨RX1, "rows", "([IIII)I"⟩
def dkwX1_rows_1 : List UInt8 := [182, 1, 71, 172]
abbrev dktX1_rows_1 : List UInt8 := dkwX1_rows_1 ++ []
def dkwX1_rows_0 : List UInt8 := [42, 180, 0, 119, 42, 180, 0, 96, 180, 0, 241, 43, 28, 21, 4, 182, 1, 67, 42, 180, 0, 119, 29]
abbrev dktX1_rows_0 : List UInt8 := dkwX1_rows_0 ++ dktX1_rows_1
theorem dksX1_rows_0 : cX1_rows.data.toList.drop 0 = dktX1_rows_0 := by decide +kernel
theorem dksX1_rows_1 : cX1_rows.data.toList.drop 23 = dktX1_rows_1 := dk_seg dksX1_rows_0 23 rfl rfl
theorem dX1_rows_0 : decode cX1_rows 0 = .ok (.aload_n 0, 1) := dk_42 (dk_at dksX1_rows_0 0 rfl rfl)
theorem dX1_rows_1 : decode cX1_rows 1 = .ok (.getfield 119, 3) := dk_180 0 119 (dk_at dksX1_rows_0 1 rfl rfl)
theorem dX1_rows_4 : decode cX1_rows 4 = .ok (.aload_n 0, 1) := dk_42 (dk_at dksX1_rows_0 4 rfl rfl)
theorem dX1_rows_5 : decode cX1_rows 5 = .ok (.getfield 96, 3) := dk_180 0 96 (dk_at dksX1_rows_0 5 rfl rfl)
theorem dX1_rows_8 : decode cX1_rows 8 = .ok (.getfield 241, 3) := dk_180 0 241 (dk_at dksX1_rows_0 8 rfl rfl)
theorem dX1_rows_11 : decode cX1_rows 11 = .ok (.aload_n 1, 1) := dk_43 (dk_at dksX1_rows_0 11 rfl rfl)
theorem dX1_rows_12 : decode cX1_rows 12 = .ok (.iload_n 2, 1) := dk_28 (dk_at dksX1_rows_0 12 rfl rfl)
theorem dX1_rows_13 : decode cX1_rows 13 = .ok (.iload 4, 2) := dk_21 4 (dk_at dksX1_rows_0 13 rfl rfl)
theorem dX1_rows_15 : decode cX1_rows 15 = .ok (.invokevirtual 323, 3) := dk_182 1 67 (dk_at dksX1_rows_0 15 rfl rfl)
theorem dX1_rows_18 : decode cX1_rows 18 = .ok (.aload_n 0, 1) := dk_42 (dk_at dksX1_rows_0 18 rfl rfl)
theorem dX1_rows_19 : decode cX1_rows 19 = .ok (.getfield 119, 3) := dk_180 0 119 (dk_at dksX1_rows_0 19 rfl rfl)
theorem dX1_rows_22 : decode cX1_rows 22 = .ok (.iload_n 3, 1) := dk_29 (dk_at dksX1_rows_0 22 rfl rfl)
theorem dX1_rows_23 : decode cX1_rows 23 = .ok (.invokevirtual 327, 3) := dk_182 1 71 (dk_at dksX1_rows_1 0 rfl rfl)
theorem dX1_rows_26 : decode cX1_rows 26 = .ok (.ireturn, 1) := dk_172 (dk_at dksX1_rows_1 3 rfl rfl)
abbrev cX1_more : ByteArray := prog_1_method_33_code
def yX1_more : MethodName := ⟨RX1, "more", "(I)I"⟩
def dkwX1_more_5 : List UInt8 := [172]
abbrev dktX1_more_5 : List UInt8 := dkwX1_more_5 ++ []
def dkwX1_more_4 : List UInt8 := [96, 79, 132, 2, 1, 167, 255, 235, 42, 42, 180, 1, 52, 181, 1, 147, 42, 42, 182, 1, 144, 182, 1, 141]
abbrev dktX1_more_4 : List UInt8 := dkwX1_more_4 ++ dktX1_more_5
def dkwX1_more_3 : List UInt8 := [132, 2, 1, 167, 255, 240, 3, 61, 28, 27, 162, 0, 22, 42, 180, 0, 154, 42, 182, 1, 144, 92, 46, 4]
abbrev dktX1_more_3 : List UInt8 := dkwX1_more_3 ++ dktX1_more_4
def dkwX1_more_2 : List UInt8 := [180, 1, 52, 3, 182, 1, 67, 3, 61, 28, 16, 12, 162, 0, 16, 42, 180, 0, 154, 28, 3, 79]
abbrev dktX1_more_2 : List UInt8 := dkwX1_more_2 ++ dktX1_more_3
def dkwX1_more_1 : List UInt8 := [184, 1, 15, 154, 0, 5, 2, 172, 42, 180, 0, 119, 42, 180, 0, 96, 180, 0, 241, 42, 180, 0, 135, 42]
abbrev dktX1_more_1 : List UInt8 := dkwX1_more_1 ++ dktX1_more_2
def dkwX1_more_0 : List UInt8 := [42, 182, 0, 228, 42, 5, 16, 12, 42, 180, 0, 222, 182, 1, 59, 153, 0, 13, 27, 3, 16, 9]
abbrev dktX1_more_0 : List UInt8 := dkwX1_more_0 ++ dktX1_more_1
theorem dksX1_more_0 : cX1_more.data.toList.drop 0 = dktX1_more_0 := by decide +kernel
theorem dksX1_more_1 : cX1_more.data.toList.drop 22 = dktX1_more_1 := dk_seg dksX1_more_0 22 rfl rfl
theorem dksX1_more_2 : cX1_more.data.toList.drop 46 = dktX1_more_2 := dk_seg dksX1_more_1 24 rfl rfl
theorem dksX1_more_3 : cX1_more.data.toList.drop 68 = dktX1_more_3 := dk_seg dksX1_more_2 22 rfl rfl
theorem dksX1_more_4 : cX1_more.data.toList.drop 92 = dktX1_more_4 := dk_seg dksX1_more_3 24 rfl rfl
theorem dksX1_more_5 : cX1_more.data.toList.drop 116 = dktX1_more_5 := dk_seg dksX1_more_4 24 rfl rfl
theorem dX1_more_0 : decode cX1_more 0 = .ok (.aload_n 0, 1) := dk_42 (dk_at dksX1_more_0 0 rfl rfl)
theorem dX1_more_1 : decode cX1_more 1 = .ok (.invokevirtual 228, 3) := dk_182 0 228 (dk_at dksX1_more_0 1 rfl rfl)
theorem dX1_more_4 : decode cX1_more 4 = .ok (.aload_n 0, 1) := dk_42 (dk_at dksX1_more_0 4 rfl rfl)
theorem dX1_more_5 : decode cX1_more 5 = .ok (.iconst 2, 1) := dk_5 (dk_at dksX1_more_0 5 rfl rfl)
theorem dX1_more_6 : decode cX1_more 6 = .ok (.bipush 12, 2) := dk_16 12 (dk_at dksX1_more_0 6 rfl rfl)
theorem dX1_more_8 : decode cX1_more 8 = .ok (.aload_n 0, 1) := dk_42 (dk_at dksX1_more_0 8 rfl rfl)
theorem dX1_more_9 : decode cX1_more 9 = .ok (.getfield 222, 3) := dk_180 0 222 (dk_at dksX1_more_0 9 rfl rfl)
theorem dX1_more_12 : decode cX1_more 12 = .ok (.invokevirtual 315, 3) := dk_182 1 59 (dk_at dksX1_more_0 12 rfl rfl)
theorem dX1_more_15 : decode cX1_more 15 = .ok (.ifCond .eq 13, 3) := dk_153 0 13 (dk_at dksX1_more_0 15 rfl rfl)
theorem dX1_more_18 : decode cX1_more 18 = .ok (.iload_n 1, 1) := dk_27 (dk_at dksX1_more_0 18 rfl rfl)
theorem dX1_more_19 : decode cX1_more 19 = .ok (.iconst 0, 1) := dk_3 (dk_at dksX1_more_0 19 rfl rfl)
theorem dX1_more_20 : decode cX1_more 20 = .ok (.bipush 9, 2) := dk_16 9 (dk_at dksX1_more_0 20 rfl rfl)
theorem dX1_more_22 : decode cX1_more 22 = .ok (.invokestatic 271, 3) := dk_184 1 15 (dk_at dksX1_more_1 0 rfl rfl)
theorem dX1_more_25 : decode cX1_more 25 = .ok (.ifCond .ne 5, 3) := dk_154 0 5 (dk_at dksX1_more_1 3 rfl rfl)
theorem dX1_more_28 : decode cX1_more 28 = .ok (.iconst (-1), 1) := dk_2 (dk_at dksX1_more_1 6 rfl rfl)
theorem dX1_more_29 : decode cX1_more 29 = .ok (.ireturn, 1) := dk_172 (dk_at dksX1_more_1 7 rfl rfl)
theorem dX1_more_30 : decode cX1_more 30 = .ok (.aload_n 0, 1) := dk_42 (dk_at dksX1_more_1 8 rfl rfl)
theorem dX1_more_31 : decode cX1_more 31 = .ok (.getfield 119, 3) := dk_180 0 119 (dk_at dksX1_more_1 9 rfl rfl)
theorem dX1_more_34 : decode cX1_more 34 = .ok (.aload_n 0, 1) := dk_42 (dk_at dksX1_more_1 12 rfl rfl)
theorem dX1_more_35 : decode cX1_more 35 = .ok (.getfield 96, 3) := dk_180 0 96 (dk_at dksX1_more_1 13 rfl rfl)
theorem dX1_more_38 : decode cX1_more 38 = .ok (.getfield 241, 3) := dk_180 0 241 (dk_at dksX1_more_1 16 rfl rfl)
theorem dX1_more_41 : decode cX1_more 41 = .ok (.aload_n 0, 1) := dk_42 (dk_at dksX1_more_1 19 rfl rfl)
theorem dX1_more_42 : decode cX1_more 42 = .ok (.getfield 135, 3) := dk_180 0 135 (dk_at dksX1_more_1 20 rfl rfl)
theorem dX1_more_45 : decode cX1_more 45 = .ok (.aload_n 0, 1) := dk_42 (dk_at dksX1_more_1 23 rfl rfl)
theorem dX1_more_46 : decode cX1_more 46 = .ok (.getfield 308, 3) := dk_180 1 52 (dk_at dksX1_more_2 0 rfl rfl)
theorem dX1_more_49 : decode cX1_more 49 = .ok (.iconst 0, 1) := dk_3 (dk_at dksX1_more_2 3 rfl rfl)
theorem dX1_more_50 : decode cX1_more 50 = .ok (.invokevirtual 323, 3) := dk_182 1 67 (dk_at dksX1_more_2 4 rfl rfl)
theorem dX1_more_53 : decode cX1_more 53 = .ok (.iconst 0, 1) := dk_3 (dk_at dksX1_more_2 7 rfl rfl)
theorem dX1_more_54 : decode cX1_more 54 = .ok (.istore_n 2, 1) := dk_61 (dk_at dksX1_more_2 8 rfl rfl)
theorem dX1_more_55 : decode cX1_more 55 = .ok (.iload_n 2, 1) := dk_28 (dk_at dksX1_more_2 9 rfl rfl)
theorem dX1_more_56 : decode cX1_more 56 = .ok (.bipush 12, 2) := dk_16 12 (dk_at dksX1_more_2 10 rfl rfl)
theorem dX1_more_58 : decode cX1_more 58 = .ok (.if_icmp .ge 16, 3) := dk_162 0 16 (dk_at dksX1_more_2 12 rfl rfl)
theorem dX1_more_61 : decode cX1_more 61 = .ok (.aload_n 0, 1) := dk_42 (dk_at dksX1_more_2 15 rfl rfl)
theorem dX1_more_62 : decode cX1_more 62 = .ok (.getfield 154, 3) := dk_180 0 154 (dk_at dksX1_more_2 16 rfl rfl)
theorem dX1_more_65 : decode cX1_more 65 = .ok (.iload_n 2, 1) := dk_28 (dk_at dksX1_more_2 19 rfl rfl)
theorem dX1_more_66 : decode cX1_more 66 = .ok (.iconst 0, 1) := dk_3 (dk_at dksX1_more_2 20 rfl rfl)
theorem dX1_more_67 : decode cX1_more 67 = .ok (.iastore, 1) := dk_79 (dk_at dksX1_more_2 21 rfl rfl)
theorem dX1_more_68 : decode cX1_more 68 = .ok (.iinc 2 1, 3) := dk_132 2 1 (dk_at dksX1_more_3 0 rfl rfl)
theorem dX1_more_71 : decode cX1_more 71 = .ok (.goto (-16), 3) := dk_167 255 240 (dk_at dksX1_more_3 3 rfl rfl)
theorem dX1_more_74 : decode cX1_more 74 = .ok (.iconst 0, 1) := dk_3 (dk_at dksX1_more_3 6 rfl rfl)
theorem dX1_more_75 : decode cX1_more 75 = .ok (.istore_n 2, 1) := dk_61 (dk_at dksX1_more_3 7 rfl rfl)
theorem dX1_more_76 : decode cX1_more 76 = .ok (.iload_n 2, 1) := dk_28 (dk_at dksX1_more_3 8 rfl rfl)
theorem dX1_more_77 : decode cX1_more 77 = .ok (.iload_n 1, 1) := dk_27 (dk_at dksX1_more_3 9 rfl rfl)
theorem dX1_more_78 : decode cX1_more 78 = .ok (.if_icmp .ge 22, 3) := dk_162 0 22 (dk_at dksX1_more_3 10 rfl rfl)
theorem dX1_more_81 : decode cX1_more 81 = .ok (.aload_n 0, 1) := dk_42 (dk_at dksX1_more_3 13 rfl rfl)
theorem dX1_more_82 : decode cX1_more 82 = .ok (.getfield 154, 3) := dk_180 0 154 (dk_at dksX1_more_3 14 rfl rfl)
theorem dX1_more_85 : decode cX1_more 85 = .ok (.aload_n 0, 1) := dk_42 (dk_at dksX1_more_3 17 rfl rfl)
theorem dX1_more_86 : decode cX1_more 86 = .ok (.invokevirtual 400, 3) := dk_182 1 144 (dk_at dksX1_more_3 18 rfl rfl)
theorem dX1_more_89 : decode cX1_more 89 = .ok (.dup2, 1) := dk_92 (dk_at dksX1_more_3 21 rfl rfl)
theorem dX1_more_90 : decode cX1_more 90 = .ok (.iaload, 1) := dk_46 (dk_at dksX1_more_3 22 rfl rfl)
theorem dX1_more_91 : decode cX1_more 91 = .ok (.iconst 1, 1) := dk_4 (dk_at dksX1_more_3 23 rfl rfl)
theorem dX1_more_92 : decode cX1_more 92 = .ok (.iadd, 1) := dk_96 (dk_at dksX1_more_4 0 rfl rfl)
theorem dX1_more_93 : decode cX1_more 93 = .ok (.iastore, 1) := dk_79 (dk_at dksX1_more_4 1 rfl rfl)
theorem dX1_more_94 : decode cX1_more 94 = .ok (.iinc 2 1, 3) := dk_132 2 1 (dk_at dksX1_more_4 2 rfl rfl)
theorem dX1_more_97 : decode cX1_more 97 = .ok (.goto (-21), 3) := dk_167 255 235 (dk_at dksX1_more_4 5 rfl rfl)
theorem dX1_more_100 : decode cX1_more 100 = .ok (.aload_n 0, 1) := dk_42 (dk_at dksX1_more_4 8 rfl rfl)
theorem dX1_more_101 : decode cX1_more 101 = .ok (.aload_n 0, 1) := dk_42 (dk_at dksX1_more_4 9 rfl rfl)
theorem dX1_more_102 : decode cX1_more 102 = .ok (.getfield 308, 3) := dk_180 1 52 (dk_at dksX1_more_4 10 rfl rfl)
theorem dX1_more_105 : decode cX1_more 105 = .ok (.putfield 403, 3) := dk_181 1 147 (dk_at dksX1_more_4 13 rfl rfl)
theorem dX1_more_108 : decode cX1_more 108 = .ok (.aload_n 0, 1) := dk_42 (dk_at dksX1_more_4 16 rfl rfl)
theorem dX1_more_109 : decode cX1_more 109 = .ok (.aload_n 0, 1) := dk_42 (dk_at dksX1_more_4 17 rfl rfl)
theorem dX1_more_110 : decode cX1_more 110 = .ok (.invokevirtual 400, 3) := dk_182 1 144 (dk_at dksX1_more_4 18 rfl rfl)
theorem dX1_more_113 : decode cX1_more 113 = .ok (.invokevirtual 397, 3) := dk_182 1 141 (dk_at dksX1_more_4 21 rfl rfl)
theorem dX1_more_116 : decode cX1_more 116 = .ok (.ireturn, 1) := dk_172 (dk_at dksX1_more_5 0 rfl rfl)
abbrev cX1_slowest : ByteArray := prog_1_method_32_code
def yX1_slowest : MethodName := ⟨RX1, "slowest", "()I"⟩
def dkwX1_slowest_1 : List UInt8 := [164, 0, 5, 28, 60, 132, 2, 1, 167, 255, 230, 27, 172]
abbrev dktX1_slowest_1 : List UInt8 := dkwX1_slowest_1 ++ []
def dkwX1_slowest_0 : List UInt8 := [3, 60, 4, 61, 28, 42, 180, 1, 52, 162, 0, 24, 42, 28, 182, 1, 141, 42, 27, 182, 1, 141]
abbrev dktX1_slowest_0 : List UInt8 := dkwX1_slowest_0 ++ dktX1_slowest_1
theorem dksX1_slowest_0 : cX1_slowest.data.toList.drop 0 = dktX1_slowest_0 := by decide +kernel
theorem dksX1_slowest_1 : cX1_slowest.data.toList.drop 22 = dktX1_slowest_1 := dk_seg dksX1_slowest_0 22 rfl rfl
theorem dX1_slowest_0 : decode cX1_slowest 0 = .ok (.iconst 0, 1) := dk_3 (dk_at dksX1_slowest_0 0 rfl rfl)
theorem dX1_slowest_1 : decode cX1_slowest 1 = .ok (.istore_n 1, 1) := dk_60 (dk_at dksX1_slowest_0 1 rfl rfl)
theorem dX1_slowest_2 : decode cX1_slowest 2 = .ok (.iconst 1, 1) := dk_4 (dk_at dksX1_slowest_0 2 rfl rfl)
theorem dX1_slowest_3 : decode cX1_slowest 3 = .ok (.istore_n 2, 1) := dk_61 (dk_at dksX1_slowest_0 3 rfl rfl)
theorem dX1_slowest_4 : decode cX1_slowest 4 = .ok (.iload_n 2, 1) := dk_28 (dk_at dksX1_slowest_0 4 rfl rfl)
theorem dX1_slowest_5 : decode cX1_slowest 5 = .ok (.aload_n 0, 1) := dk_42 (dk_at dksX1_slowest_0 5 rfl rfl)
theorem dX1_slowest_6 : decode cX1_slowest 6 = .ok (.getfield 308, 3) := dk_180 1 52 (dk_at dksX1_slowest_0 6 rfl rfl)
theorem dX1_slowest_9 : decode cX1_slowest 9 = .ok (.if_icmp .ge 24, 3) := dk_162 0 24 (dk_at dksX1_slowest_0 9 rfl rfl)
theorem dX1_slowest_12 : decode cX1_slowest 12 = .ok (.aload_n 0, 1) := dk_42 (dk_at dksX1_slowest_0 12 rfl rfl)
theorem dX1_slowest_13 : decode cX1_slowest 13 = .ok (.iload_n 2, 1) := dk_28 (dk_at dksX1_slowest_0 13 rfl rfl)
theorem dX1_slowest_14 : decode cX1_slowest 14 = .ok (.invokevirtual 397, 3) := dk_182 1 141 (dk_at dksX1_slowest_0 14 rfl rfl)
theorem dX1_slowest_17 : decode cX1_slowest 17 = .ok (.aload_n 0, 1) := dk_42 (dk_at dksX1_slowest_0 17 rfl rfl)
theorem dX1_slowest_18 : decode cX1_slowest 18 = .ok (.iload_n 1, 1) := dk_27 (dk_at dksX1_slowest_0 18 rfl rfl)
theorem dX1_slowest_19 : decode cX1_slowest 19 = .ok (.invokevirtual 397, 3) := dk_182 1 141 (dk_at dksX1_slowest_0 19 rfl rfl)
theorem dX1_slowest_22 : decode cX1_slowest 22 = .ok (.if_icmp .le 5, 3) := dk_164 0 5 (dk_at dksX1_slowest_1 0 rfl rfl)
theorem dX1_slowest_25 : decode cX1_slowest 25 = .ok (.iload_n 2, 1) := dk_28 (dk_at dksX1_slowest_1 3 rfl rfl)
theorem dX1_slowest_26 : decode cX1_slowest 26 = .ok (.istore_n 1, 1) := dk_60 (dk_at dksX1_slowest_1 4 rfl rfl)
theorem dX1_slowest_27 : decode cX1_slowest 27 = .ok (.iinc 2 1, 3) := dk_132 2 1 (dk_at dksX1_slowest_1 5 rfl rfl)
theorem dX1_slowest_30 : decode cX1_slowest 30 = .ok (.goto (-26), 3) := dk_167 255 230 (dk_at dksX1_slowest_1 8 rfl rfl)
theorem dX1_slowest_33 : decode cX1_slowest 33 = .ok (.iload_n 1, 1) := dk_27 (dk_at dksX1_slowest_1 11 rfl rfl)
theorem dX1_slowest_34 : decode cX1_slowest 34 = .ok (.ireturn, 1) := dk_172 (dk_at dksX1_slowest_1 12 rfl rfl)
abbrev cX1_timeBy : ByteArray := prog_1_method_31_code
def yX1_timeBy : MethodName := ⟨RX1, "timeBy", "(I)I"⟩
def dkwX1_timeBy_0 : List UInt8 := [42, 180, 0, 119, 27, 182, 1, 134, 42, 180, 0, 154, 27, 46, 4, 96, 184, 1, 137, 172]
abbrev dktX1_timeBy_0 : List UInt8 := dkwX1_timeBy_0 ++ []
theorem dksX1_timeBy_0 : cX1_timeBy.data.toList.drop 0 = dktX1_timeBy_0 := by decide +kernel
theorem dX1_timeBy_0 : decode cX1_timeBy 0 = .ok (.aload_n 0, 1) := dk_42 (dk_at dksX1_timeBy_0 0 rfl rfl)
theorem dX1_timeBy_1 : decode cX1_timeBy 1 = .ok (.getfield 119, 3) := dk_180 0 119 (dk_at dksX1_timeBy_0 1 rfl rfl)
theorem dX1_timeBy_4 : decode cX1_timeBy 4 = .ok (.iload_n 1, 1) := dk_27 (dk_at dksX1_timeBy_0 4 rfl rfl)
theorem dX1_timeBy_5 : decode cX1_timeBy 5 = .ok (.invokevirtual 390, 3) := dk_182 1 134 (dk_at dksX1_timeBy_0 5 rfl rfl)
theorem dX1_timeBy_8 : decode cX1_timeBy 8 = .ok (.aload_n 0, 1) := dk_42 (dk_at dksX1_timeBy_0 8 rfl rfl)
theorem dX1_timeBy_9 : decode cX1_timeBy 9 = .ok (.getfield 154, 3) := dk_180 0 154 (dk_at dksX1_timeBy_0 9 rfl rfl)
theorem dX1_timeBy_12 : decode cX1_timeBy 12 = .ok (.iload_n 1, 1) := dk_27 (dk_at dksX1_timeBy_0 12 rfl rfl)
theorem dX1_timeBy_13 : decode cX1_timeBy 13 = .ok (.iaload, 1) := dk_46 (dk_at dksX1_timeBy_0 13 rfl rfl)
theorem dX1_timeBy_14 : decode cX1_timeBy 14 = .ok (.iconst 1, 1) := dk_4 (dk_at dksX1_timeBy_0 14 rfl rfl)
theorem dX1_timeBy_15 : decode cX1_timeBy 15 = .ok (.iadd, 1) := dk_96 (dk_at dksX1_timeBy_0 15 rfl rfl)
theorem dX1_timeBy_16 : decode cX1_timeBy 16 = .ok (.invokestatic 393, 3) := dk_184 1 137 (dk_at dksX1_timeBy_0 16 rfl rfl)
theorem dX1_timeBy_19 : decode cX1_timeBy 19 = .ok (.ireturn, 1) := dk_172 (dk_at dksX1_timeBy_0 19 rfl rfl)
abbrev cX1_moreAt : ByteArray := prog_1_method_34_code
def yX1_moreAt : MethodName := ⟨RX1, "moreAt", "(I)I"⟩
def dkwX1_moreAt_1 : List UInt8 := [172]
abbrev dktX1_moreAt_1 : List UInt8 := dkwX1_moreAt_1 ++ []
def dkwX1_moreAt_0 : List UInt8 := [27, 3, 42, 180, 1, 147, 4, 100, 184, 1, 15, 153, 0, 12, 42, 180, 0, 154, 27, 46, 167, 0, 4, 2]
abbrev dktX1_moreAt_0 : List UInt8 := dkwX1_moreAt_0 ++ dktX1_moreAt_1
theorem dksX1_moreAt_0 : cX1_moreAt.data.toList.drop 0 = dktX1_moreAt_0 := by decide +kernel
theorem dksX1_moreAt_1 : cX1_moreAt.data.toList.drop 24 = dktX1_moreAt_1 := dk_seg dksX1_moreAt_0 24 rfl rfl
theorem dX1_moreAt_0 : decode cX1_moreAt 0 = .ok (.iload_n 1, 1) := dk_27 (dk_at dksX1_moreAt_0 0 rfl rfl)
theorem dX1_moreAt_1 : decode cX1_moreAt 1 = .ok (.iconst 0, 1) := dk_3 (dk_at dksX1_moreAt_0 1 rfl rfl)
theorem dX1_moreAt_2 : decode cX1_moreAt 2 = .ok (.aload_n 0, 1) := dk_42 (dk_at dksX1_moreAt_0 2 rfl rfl)
theorem dX1_moreAt_3 : decode cX1_moreAt 3 = .ok (.getfield 403, 3) := dk_180 1 147 (dk_at dksX1_moreAt_0 3 rfl rfl)
theorem dX1_moreAt_6 : decode cX1_moreAt 6 = .ok (.iconst 1, 1) := dk_4 (dk_at dksX1_moreAt_0 6 rfl rfl)
theorem dX1_moreAt_7 : decode cX1_moreAt 7 = .ok (.isub, 1) := dk_100 (dk_at dksX1_moreAt_0 7 rfl rfl)
theorem dX1_moreAt_8 : decode cX1_moreAt 8 = .ok (.invokestatic 271, 3) := dk_184 1 15 (dk_at dksX1_moreAt_0 8 rfl rfl)
theorem dX1_moreAt_11 : decode cX1_moreAt 11 = .ok (.ifCond .eq 12, 3) := dk_153 0 12 (dk_at dksX1_moreAt_0 11 rfl rfl)
theorem dX1_moreAt_14 : decode cX1_moreAt 14 = .ok (.aload_n 0, 1) := dk_42 (dk_at dksX1_moreAt_0 14 rfl rfl)
theorem dX1_moreAt_15 : decode cX1_moreAt 15 = .ok (.getfield 154, 3) := dk_180 0 154 (dk_at dksX1_moreAt_0 15 rfl rfl)
theorem dX1_moreAt_18 : decode cX1_moreAt 18 = .ok (.iload_n 1, 1) := dk_27 (dk_at dksX1_moreAt_0 18 rfl rfl)
theorem dX1_moreAt_19 : decode cX1_moreAt 19 = .ok (.iaload, 1) := dk_46 (dk_at dksX1_moreAt_0 19 rfl rfl)
theorem dX1_moreAt_20 : decode cX1_moreAt 20 = .ok (.goto 4, 3) := dk_167 0 4 (dk_at dksX1_moreAt_0 20 rfl rfl)
theorem dX1_moreAt_23 : decode cX1_moreAt 23 = .ok (.iconst (-1), 1) := dk_2 (dk_at dksX1_moreAt_0 23 rfl rfl)
theorem dX1_moreAt_24 : decode cX1_moreAt 24 = .ok (.ireturn, 1) := dk_172 (dk_at dksX1_moreAt_1 0 rfl rfl)
abbrev cX1_relief : ByteArray := prog_1_method_35_code
def yX1_relief : MethodName := ⟨RX1, "relief", "()I"⟩
def dkwX1_relief_2 : List UInt8 := [172]
abbrev dktX1_relief_2 : List UInt8 := dkwX1_relief_2 ++ []
def dkwX1_relief_1 : List UInt8 := [42, 180, 1, 52, 163, 0, 19, 42, 27, 182, 1, 150, 153, 0, 5, 27, 172, 132, 1, 1, 167, 255, 235, 2]
abbrev dktX1_relief_1 : List UInt8 := dkwX1_relief_1 ++ dktX1_relief_2
def dkwX1_relief_0 : List UInt8 := [42, 182, 0, 228, 42, 4, 16, 12, 42, 180, 0, 222, 182, 1, 59, 154, 0, 6, 16, 254, 172, 4, 60, 27]
abbrev dktX1_relief_0 : List UInt8 := dkwX1_relief_0 ++ dktX1_relief_1
theorem dksX1_relief_0 : cX1_relief.data.toList.drop 0 = dktX1_relief_0 := by decide +kernel
theorem dksX1_relief_1 : cX1_relief.data.toList.drop 24 = dktX1_relief_1 := dk_seg dksX1_relief_0 24 rfl rfl
theorem dksX1_relief_2 : cX1_relief.data.toList.drop 48 = dktX1_relief_2 := dk_seg dksX1_relief_1 24 rfl rfl
theorem dX1_relief_0 : decode cX1_relief 0 = .ok (.aload_n 0, 1) := dk_42 (dk_at dksX1_relief_0 0 rfl rfl)
theorem dX1_relief_1 : decode cX1_relief 1 = .ok (.invokevirtual 228, 3) := dk_182 0 228 (dk_at dksX1_relief_0 1 rfl rfl)
theorem dX1_relief_4 : decode cX1_relief 4 = .ok (.aload_n 0, 1) := dk_42 (dk_at dksX1_relief_0 4 rfl rfl)
theorem dX1_relief_5 : decode cX1_relief 5 = .ok (.iconst 1, 1) := dk_4 (dk_at dksX1_relief_0 5 rfl rfl)
theorem dX1_relief_6 : decode cX1_relief 6 = .ok (.bipush 12, 2) := dk_16 12 (dk_at dksX1_relief_0 6 rfl rfl)
theorem dX1_relief_8 : decode cX1_relief 8 = .ok (.aload_n 0, 1) := dk_42 (dk_at dksX1_relief_0 8 rfl rfl)
theorem dX1_relief_9 : decode cX1_relief 9 = .ok (.getfield 222, 3) := dk_180 0 222 (dk_at dksX1_relief_0 9 rfl rfl)
theorem dX1_relief_12 : decode cX1_relief 12 = .ok (.invokevirtual 315, 3) := dk_182 1 59 (dk_at dksX1_relief_0 12 rfl rfl)
theorem dX1_relief_15 : decode cX1_relief 15 = .ok (.ifCond .ne 6, 3) := dk_154 0 6 (dk_at dksX1_relief_0 15 rfl rfl)
theorem dX1_relief_18 : decode cX1_relief 18 = .ok (.bipush (-2), 2) := dk_16 254 (dk_at dksX1_relief_0 18 rfl rfl)
theorem dX1_relief_20 : decode cX1_relief 20 = .ok (.ireturn, 1) := dk_172 (dk_at dksX1_relief_0 20 rfl rfl)
theorem dX1_relief_21 : decode cX1_relief 21 = .ok (.iconst 1, 1) := dk_4 (dk_at dksX1_relief_0 21 rfl rfl)
theorem dX1_relief_22 : decode cX1_relief 22 = .ok (.istore_n 1, 1) := dk_60 (dk_at dksX1_relief_0 22 rfl rfl)
theorem dX1_relief_23 : decode cX1_relief 23 = .ok (.iload_n 1, 1) := dk_27 (dk_at dksX1_relief_0 23 rfl rfl)
theorem dX1_relief_24 : decode cX1_relief 24 = .ok (.aload_n 0, 1) := dk_42 (dk_at dksX1_relief_1 0 rfl rfl)
theorem dX1_relief_25 : decode cX1_relief 25 = .ok (.getfield 308, 3) := dk_180 1 52 (dk_at dksX1_relief_1 1 rfl rfl)
theorem dX1_relief_28 : decode cX1_relief 28 = .ok (.if_icmp .gt 19, 3) := dk_163 0 19 (dk_at dksX1_relief_1 4 rfl rfl)
theorem dX1_relief_31 : decode cX1_relief 31 = .ok (.aload_n 0, 1) := dk_42 (dk_at dksX1_relief_1 7 rfl rfl)
theorem dX1_relief_32 : decode cX1_relief 32 = .ok (.iload_n 1, 1) := dk_27 (dk_at dksX1_relief_1 8 rfl rfl)
theorem dX1_relief_33 : decode cX1_relief 33 = .ok (.invokevirtual 406, 3) := dk_182 1 150 (dk_at dksX1_relief_1 9 rfl rfl)
theorem dX1_relief_36 : decode cX1_relief 36 = .ok (.ifCond .eq 5, 3) := dk_153 0 5 (dk_at dksX1_relief_1 12 rfl rfl)
theorem dX1_relief_39 : decode cX1_relief 39 = .ok (.iload_n 1, 1) := dk_27 (dk_at dksX1_relief_1 15 rfl rfl)
theorem dX1_relief_40 : decode cX1_relief 40 = .ok (.ireturn, 1) := dk_172 (dk_at dksX1_relief_1 16 rfl rfl)
theorem dX1_relief_41 : decode cX1_relief 41 = .ok (.iinc 1 1, 3) := dk_132 1 1 (dk_at dksX1_relief_1 17 rfl rfl)
theorem dX1_relief_44 : decode cX1_relief 44 = .ok (.goto (-21), 3) := dk_167 255 235 (dk_at dksX1_relief_1 20 rfl rfl)
theorem dX1_relief_47 : decode cX1_relief 47 = .ok (.iconst (-1), 1) := dk_2 (dk_at dksX1_relief_1 23 rfl rfl)
theorem dX1_relief_48 : decode cX1_relief 48 = .ok (.ireturn, 1) := dk_172 (dk_at dksX1_relief_2 0 rfl rfl)
abbrev cX1_relieves : ByteArray := prog_1_method_36_code
def yX1_relieves : MethodName := ⟨RX1, "relieves", "(I)Z"⟩
def dkwX1_relieves_5 : List UInt8 := [180, 1, 39, 184, 1, 153, 79, 132, 3, 1, 167, 255, 193, 132, 2, 1, 167, 255, 165, 4, 172]
abbrev dktX1_relieves_5 : List UInt8 := dkwX1_relieves_5 ++ []
def dkwX1_relieves_4 : List UInt8 := [180, 0, 157, 29, 46, 4, 96, 42, 180, 0, 96, 180, 0, 241, 180, 1, 27, 42, 180, 0, 135, 29, 46, 50]
abbrev dktX1_relieves_4 : List UInt8 := dkwX1_relieves_4 ++ dktX1_relieves_5
def dkwX1_relieves_3 : List UInt8 := [180, 0, 157, 29, 29, 28, 27, 112, 160, 0, 14, 42, 180, 0, 157, 29, 46, 6, 100, 167, 0, 34, 42]
abbrev dktX1_relieves_3 : List UInt8 := dkwX1_relieves_3 ++ dktX1_relieves_4
def dkwX1_relieves_2 : List UInt8 := [42, 180, 0, 157, 28, 27, 112, 46, 6, 162, 0, 5, 3, 172, 3, 62, 29, 27, 162, 0, 64, 42]
abbrev dktX1_relieves_2 : List UInt8 := dkwX1_relieves_2 ++ dktX1_relieves_3
def dkwX1_relieves_1 : List UInt8 := [180, 0, 135, 28, 46, 50, 180, 1, 39, 79, 132, 2, 1, 167, 255, 222, 3, 61, 28, 16, 60, 162, 0, 91]
abbrev dktX1_relieves_1 : List UInt8 := dkwX1_relieves_1 ++ dktX1_relieves_2
def dkwX1_relieves_0 : List UInt8 := [3, 61, 28, 27, 162, 0, 35, 42, 180, 0, 157, 28, 42, 180, 0, 96, 180, 0, 241, 180, 1, 27, 42]
abbrev dktX1_relieves_0 : List UInt8 := dkwX1_relieves_0 ++ dktX1_relieves_1
theorem dksX1_relieves_0 : cX1_relieves.data.toList.drop 0 = dktX1_relieves_0 := by decide +kernel
theorem dksX1_relieves_1 : cX1_relieves.data.toList.drop 23 = dktX1_relieves_1 := dk_seg dksX1_relieves_0 23 rfl rfl
theorem dksX1_relieves_2 : cX1_relieves.data.toList.drop 47 = dktX1_relieves_2 := dk_seg dksX1_relieves_1 24 rfl rfl
theorem dksX1_relieves_3 : cX1_relieves.data.toList.drop 69 = dktX1_relieves_3 := dk_seg dksX1_relieves_2 22 rfl rfl
theorem dksX1_relieves_4 : cX1_relieves.data.toList.drop 92 = dktX1_relieves_4 := dk_seg dksX1_relieves_3 23 rfl rfl
theorem dksX1_relieves_5 : cX1_relieves.data.toList.drop 116 = dktX1_relieves_5 := dk_seg dksX1_relieves_4 24 rfl rfl
theorem dX1_relieves_0 : decode cX1_relieves 0 = .ok (.iconst 0, 1) := dk_3 (dk_at dksX1_relieves_0 0 rfl rfl)
theorem dX1_relieves_1 : decode cX1_relieves 1 = .ok (.istore_n 2, 1) := dk_61 (dk_at dksX1_relieves_0 1 rfl rfl)
theorem dX1_relieves_2 : decode cX1_relieves 2 = .ok (.iload_n 2, 1) := dk_28 (dk_at dksX1_relieves_0 2 rfl rfl)
theorem dX1_relieves_3 : decode cX1_relieves 3 = .ok (.iload_n 1, 1) := dk_27 (dk_at dksX1_relieves_0 3 rfl rfl)
theorem dX1_relieves_4 : decode cX1_relieves 4 = .ok (.if_icmp .ge 35, 3) := dk_162 0 35 (dk_at dksX1_relieves_0 4 rfl rfl)
theorem dX1_relieves_7 : decode cX1_relieves 7 = .ok (.aload_n 0, 1) := dk_42 (dk_at dksX1_relieves_0 7 rfl rfl)
theorem dX1_relieves_8 : decode cX1_relieves 8 = .ok (.getfield 157, 3) := dk_180 0 157 (dk_at dksX1_relieves_0 8 rfl rfl)
theorem dX1_relieves_11 : decode cX1_relieves 11 = .ok (.iload_n 2, 1) := dk_28 (dk_at dksX1_relieves_0 11 rfl rfl)
theorem dX1_relieves_12 : decode cX1_relieves 12 = .ok (.aload_n 0, 1) := dk_42 (dk_at dksX1_relieves_0 12 rfl rfl)
theorem dX1_relieves_13 : decode cX1_relieves 13 = .ok (.getfield 96, 3) := dk_180 0 96 (dk_at dksX1_relieves_0 13 rfl rfl)
theorem dX1_relieves_16 : decode cX1_relieves 16 = .ok (.getfield 241, 3) := dk_180 0 241 (dk_at dksX1_relieves_0 16 rfl rfl)
theorem dX1_relieves_19 : decode cX1_relieves 19 = .ok (.getfield 283, 3) := dk_180 1 27 (dk_at dksX1_relieves_0 19 rfl rfl)
theorem dX1_relieves_22 : decode cX1_relieves 22 = .ok (.aload_n 0, 1) := dk_42 (dk_at dksX1_relieves_0 22 rfl rfl)
theorem dX1_relieves_23 : decode cX1_relieves 23 = .ok (.getfield 135, 3) := dk_180 0 135 (dk_at dksX1_relieves_1 0 rfl rfl)
theorem dX1_relieves_26 : decode cX1_relieves 26 = .ok (.iload_n 2, 1) := dk_28 (dk_at dksX1_relieves_1 3 rfl rfl)
theorem dX1_relieves_27 : decode cX1_relieves 27 = .ok (.iaload, 1) := dk_46 (dk_at dksX1_relieves_1 4 rfl rfl)
theorem dX1_relieves_28 : decode cX1_relieves 28 = .ok (.aaload, 1) := dk_50 (dk_at dksX1_relieves_1 5 rfl rfl)
theorem dX1_relieves_29 : decode cX1_relieves 29 = .ok (.getfield 295, 3) := dk_180 1 39 (dk_at dksX1_relieves_1 6 rfl rfl)
theorem dX1_relieves_32 : decode cX1_relieves 32 = .ok (.iastore, 1) := dk_79 (dk_at dksX1_relieves_1 9 rfl rfl)
theorem dX1_relieves_33 : decode cX1_relieves 33 = .ok (.iinc 2 1, 3) := dk_132 2 1 (dk_at dksX1_relieves_1 10 rfl rfl)
theorem dX1_relieves_36 : decode cX1_relieves 36 = .ok (.goto (-34), 3) := dk_167 255 222 (dk_at dksX1_relieves_1 13 rfl rfl)
theorem dX1_relieves_39 : decode cX1_relieves 39 = .ok (.iconst 0, 1) := dk_3 (dk_at dksX1_relieves_1 16 rfl rfl)
theorem dX1_relieves_40 : decode cX1_relieves 40 = .ok (.istore_n 2, 1) := dk_61 (dk_at dksX1_relieves_1 17 rfl rfl)
theorem dX1_relieves_41 : decode cX1_relieves 41 = .ok (.iload_n 2, 1) := dk_28 (dk_at dksX1_relieves_1 18 rfl rfl)
theorem dX1_relieves_42 : decode cX1_relieves 42 = .ok (.bipush 60, 2) := dk_16 60 (dk_at dksX1_relieves_1 19 rfl rfl)
theorem dX1_relieves_44 : decode cX1_relieves 44 = .ok (.if_icmp .ge 91, 3) := dk_162 0 91 (dk_at dksX1_relieves_1 21 rfl rfl)
theorem dX1_relieves_47 : decode cX1_relieves 47 = .ok (.aload_n 0, 1) := dk_42 (dk_at dksX1_relieves_2 0 rfl rfl)
theorem dX1_relieves_48 : decode cX1_relieves 48 = .ok (.getfield 157, 3) := dk_180 0 157 (dk_at dksX1_relieves_2 1 rfl rfl)
theorem dX1_relieves_51 : decode cX1_relieves 51 = .ok (.iload_n 2, 1) := dk_28 (dk_at dksX1_relieves_2 4 rfl rfl)
theorem dX1_relieves_52 : decode cX1_relieves 52 = .ok (.iload_n 1, 1) := dk_27 (dk_at dksX1_relieves_2 5 rfl rfl)
theorem dX1_relieves_53 : decode cX1_relieves 53 = .ok (.irem, 1) := dk_112 (dk_at dksX1_relieves_2 6 rfl rfl)
theorem dX1_relieves_54 : decode cX1_relieves 54 = .ok (.iaload, 1) := dk_46 (dk_at dksX1_relieves_2 7 rfl rfl)
theorem dX1_relieves_55 : decode cX1_relieves 55 = .ok (.iconst 3, 1) := dk_6 (dk_at dksX1_relieves_2 8 rfl rfl)
theorem dX1_relieves_56 : decode cX1_relieves 56 = .ok (.if_icmp .ge 5, 3) := dk_162 0 5 (dk_at dksX1_relieves_2 9 rfl rfl)
theorem dX1_relieves_59 : decode cX1_relieves 59 = .ok (.iconst 0, 1) := dk_3 (dk_at dksX1_relieves_2 12 rfl rfl)
theorem dX1_relieves_60 : decode cX1_relieves 60 = .ok (.ireturn, 1) := dk_172 (dk_at dksX1_relieves_2 13 rfl rfl)
theorem dX1_relieves_61 : decode cX1_relieves 61 = .ok (.iconst 0, 1) := dk_3 (dk_at dksX1_relieves_2 14 rfl rfl)
theorem dX1_relieves_62 : decode cX1_relieves 62 = .ok (.istore_n 3, 1) := dk_62 (dk_at dksX1_relieves_2 15 rfl rfl)
theorem dX1_relieves_63 : decode cX1_relieves 63 = .ok (.iload_n 3, 1) := dk_29 (dk_at dksX1_relieves_2 16 rfl rfl)
theorem dX1_relieves_64 : decode cX1_relieves 64 = .ok (.iload_n 1, 1) := dk_27 (dk_at dksX1_relieves_2 17 rfl rfl)
theorem dX1_relieves_65 : decode cX1_relieves 65 = .ok (.if_icmp .ge 64, 3) := dk_162 0 64 (dk_at dksX1_relieves_2 18 rfl rfl)
theorem dX1_relieves_68 : decode cX1_relieves 68 = .ok (.aload_n 0, 1) := dk_42 (dk_at dksX1_relieves_2 21 rfl rfl)
theorem dX1_relieves_69 : decode cX1_relieves 69 = .ok (.getfield 157, 3) := dk_180 0 157 (dk_at dksX1_relieves_3 0 rfl rfl)
theorem dX1_relieves_72 : decode cX1_relieves 72 = .ok (.iload_n 3, 1) := dk_29 (dk_at dksX1_relieves_3 3 rfl rfl)
theorem dX1_relieves_73 : decode cX1_relieves 73 = .ok (.iload_n 3, 1) := dk_29 (dk_at dksX1_relieves_3 4 rfl rfl)
theorem dX1_relieves_74 : decode cX1_relieves 74 = .ok (.iload_n 2, 1) := dk_28 (dk_at dksX1_relieves_3 5 rfl rfl)
theorem dX1_relieves_75 : decode cX1_relieves 75 = .ok (.iload_n 1, 1) := dk_27 (dk_at dksX1_relieves_3 6 rfl rfl)
theorem dX1_relieves_76 : decode cX1_relieves 76 = .ok (.irem, 1) := dk_112 (dk_at dksX1_relieves_3 7 rfl rfl)
theorem dX1_relieves_77 : decode cX1_relieves 77 = .ok (.if_icmp .ne 14, 3) := dk_160 0 14 (dk_at dksX1_relieves_3 8 rfl rfl)
theorem dX1_relieves_80 : decode cX1_relieves 80 = .ok (.aload_n 0, 1) := dk_42 (dk_at dksX1_relieves_3 11 rfl rfl)
theorem dX1_relieves_81 : decode cX1_relieves 81 = .ok (.getfield 157, 3) := dk_180 0 157 (dk_at dksX1_relieves_3 12 rfl rfl)
theorem dX1_relieves_84 : decode cX1_relieves 84 = .ok (.iload_n 3, 1) := dk_29 (dk_at dksX1_relieves_3 15 rfl rfl)
theorem dX1_relieves_85 : decode cX1_relieves 85 = .ok (.iaload, 1) := dk_46 (dk_at dksX1_relieves_3 16 rfl rfl)
theorem dX1_relieves_86 : decode cX1_relieves 86 = .ok (.iconst 3, 1) := dk_6 (dk_at dksX1_relieves_3 17 rfl rfl)
theorem dX1_relieves_87 : decode cX1_relieves 87 = .ok (.isub, 1) := dk_100 (dk_at dksX1_relieves_3 18 rfl rfl)
theorem dX1_relieves_88 : decode cX1_relieves 88 = .ok (.goto 34, 3) := dk_167 0 34 (dk_at dksX1_relieves_3 19 rfl rfl)
theorem dX1_relieves_91 : decode cX1_relieves 91 = .ok (.aload_n 0, 1) := dk_42 (dk_at dksX1_relieves_3 22 rfl rfl)
theorem dX1_relieves_92 : decode cX1_relieves 92 = .ok (.getfield 157, 3) := dk_180 0 157 (dk_at dksX1_relieves_4 0 rfl rfl)
theorem dX1_relieves_95 : decode cX1_relieves 95 = .ok (.iload_n 3, 1) := dk_29 (dk_at dksX1_relieves_4 3 rfl rfl)
theorem dX1_relieves_96 : decode cX1_relieves 96 = .ok (.iaload, 1) := dk_46 (dk_at dksX1_relieves_4 4 rfl rfl)
theorem dX1_relieves_97 : decode cX1_relieves 97 = .ok (.iconst 1, 1) := dk_4 (dk_at dksX1_relieves_4 5 rfl rfl)
theorem dX1_relieves_98 : decode cX1_relieves 98 = .ok (.iadd, 1) := dk_96 (dk_at dksX1_relieves_4 6 rfl rfl)
theorem dX1_relieves_99 : decode cX1_relieves 99 = .ok (.aload_n 0, 1) := dk_42 (dk_at dksX1_relieves_4 7 rfl rfl)
theorem dX1_relieves_100 : decode cX1_relieves 100 = .ok (.getfield 96, 3) := dk_180 0 96 (dk_at dksX1_relieves_4 8 rfl rfl)
theorem dX1_relieves_103 : decode cX1_relieves 103 = .ok (.getfield 241, 3) := dk_180 0 241 (dk_at dksX1_relieves_4 11 rfl rfl)
theorem dX1_relieves_106 : decode cX1_relieves 106 = .ok (.getfield 283, 3) := dk_180 1 27 (dk_at dksX1_relieves_4 14 rfl rfl)
theorem dX1_relieves_109 : decode cX1_relieves 109 = .ok (.aload_n 0, 1) := dk_42 (dk_at dksX1_relieves_4 17 rfl rfl)
theorem dX1_relieves_110 : decode cX1_relieves 110 = .ok (.getfield 135, 3) := dk_180 0 135 (dk_at dksX1_relieves_4 18 rfl rfl)
theorem dX1_relieves_113 : decode cX1_relieves 113 = .ok (.iload_n 3, 1) := dk_29 (dk_at dksX1_relieves_4 21 rfl rfl)
theorem dX1_relieves_114 : decode cX1_relieves 114 = .ok (.iaload, 1) := dk_46 (dk_at dksX1_relieves_4 22 rfl rfl)
theorem dX1_relieves_115 : decode cX1_relieves 115 = .ok (.aaload, 1) := dk_50 (dk_at dksX1_relieves_4 23 rfl rfl)
theorem dX1_relieves_116 : decode cX1_relieves 116 = .ok (.getfield 295, 3) := dk_180 1 39 (dk_at dksX1_relieves_5 0 rfl rfl)
theorem dX1_relieves_119 : decode cX1_relieves 119 = .ok (.invokestatic 409, 3) := dk_184 1 153 (dk_at dksX1_relieves_5 3 rfl rfl)
theorem dX1_relieves_122 : decode cX1_relieves 122 = .ok (.iastore, 1) := dk_79 (dk_at dksX1_relieves_5 6 rfl rfl)
theorem dX1_relieves_123 : decode cX1_relieves 123 = .ok (.iinc 3 1, 3) := dk_132 3 1 (dk_at dksX1_relieves_5 7 rfl rfl)
theorem dX1_relieves_126 : decode cX1_relieves 126 = .ok (.goto (-63), 3) := dk_167 255 193 (dk_at dksX1_relieves_5 10 rfl rfl)
theorem dX1_relieves_129 : decode cX1_relieves 129 = .ok (.iinc 2 1, 3) := dk_132 2 1 (dk_at dksX1_relieves_5 13 rfl rfl)
theorem dX1_relieves_132 : decode cX1_relieves 132 = .ok (.goto (-91), 3) := dk_167 255 165 (dk_at dksX1_relieves_5 16 rfl rfl)
theorem dX1_relieves_135 : decode cX1_relieves 135 = .ok (.iconst 1, 1) := dk_4 (dk_at dksX1_relieves_5 19 rfl rfl)
theorem dX1_relieves_136 : decode cX1_relieves 136 = .ok (.ireturn, 1) := dk_172 (dk_at dksX1_relieves_5 20 rfl rfl)
abbrev cX1_hooks : ByteArray := prog_1_method_37_code
def yX1_hooks : MethodName := ⟨RX1, "hooks", "(I)I"⟩
def dkwX1_hooks_4 : List UInt8 := [27, 182, 1, 161, 42, 27, 181, 1, 165, 42, 180, 1, 158, 172]
abbrev dktX1_hooks_4 : List UInt8 := dkwX1_hooks_4 ++ []
def dkwX1_hooks_3 : List UInt8 := [182, 1, 55, 163, 0, 5, 2, 172, 132, 2, 1, 167, 255, 214, 42, 19, 1, 112, 181, 1, 158, 42, 3, 3]
abbrev dktX1_hooks_3 : List UInt8 := dkwX1_hooks_3 ++ dktX1_hooks_4
def dkwX1_hooks_2 : List UInt8 := [42, 28, 182, 1, 55, 16, 99, 163, 0, 22, 28, 158, 0, 20, 42, 28, 182, 1, 55, 42, 28, 4, 100]
abbrev dktX1_hooks_2 : List UInt8 := dkwX1_hooks_2 ++ dktX1_hooks_3
def dkwX1_hooks_1 : List UInt8 := [180, 0, 222, 184, 1, 153, 184, 1, 15, 154, 0, 5, 2, 172, 3, 61, 28, 42, 180, 0, 222, 162, 0, 40]
abbrev dktX1_hooks_1 : List UInt8 := dkwX1_hooks_1 ++ dktX1_hooks_2
def dkwX1_hooks_0 : List UInt8 := [42, 182, 0, 228, 42, 180, 0, 222, 4, 16, 12, 184, 1, 15, 153, 0, 20, 27, 4, 16, 6, 42]
abbrev dktX1_hooks_0 : List UInt8 := dkwX1_hooks_0 ++ dktX1_hooks_1
theorem dksX1_hooks_0 : cX1_hooks.data.toList.drop 0 = dktX1_hooks_0 := by decide +kernel
theorem dksX1_hooks_1 : cX1_hooks.data.toList.drop 22 = dktX1_hooks_1 := dk_seg dksX1_hooks_0 22 rfl rfl
theorem dksX1_hooks_2 : cX1_hooks.data.toList.drop 46 = dktX1_hooks_2 := dk_seg dksX1_hooks_1 24 rfl rfl
theorem dksX1_hooks_3 : cX1_hooks.data.toList.drop 69 = dktX1_hooks_3 := dk_seg dksX1_hooks_2 23 rfl rfl
theorem dksX1_hooks_4 : cX1_hooks.data.toList.drop 93 = dktX1_hooks_4 := dk_seg dksX1_hooks_3 24 rfl rfl
theorem dX1_hooks_0 : decode cX1_hooks 0 = .ok (.aload_n 0, 1) := dk_42 (dk_at dksX1_hooks_0 0 rfl rfl)
theorem dX1_hooks_1 : decode cX1_hooks 1 = .ok (.invokevirtual 228, 3) := dk_182 0 228 (dk_at dksX1_hooks_0 1 rfl rfl)
theorem dX1_hooks_4 : decode cX1_hooks 4 = .ok (.aload_n 0, 1) := dk_42 (dk_at dksX1_hooks_0 4 rfl rfl)
theorem dX1_hooks_5 : decode cX1_hooks 5 = .ok (.getfield 222, 3) := dk_180 0 222 (dk_at dksX1_hooks_0 5 rfl rfl)
theorem dX1_hooks_8 : decode cX1_hooks 8 = .ok (.iconst 1, 1) := dk_4 (dk_at dksX1_hooks_0 8 rfl rfl)
theorem dX1_hooks_9 : decode cX1_hooks 9 = .ok (.bipush 12, 2) := dk_16 12 (dk_at dksX1_hooks_0 9 rfl rfl)
theorem dX1_hooks_11 : decode cX1_hooks 11 = .ok (.invokestatic 271, 3) := dk_184 1 15 (dk_at dksX1_hooks_0 11 rfl rfl)
theorem dX1_hooks_14 : decode cX1_hooks 14 = .ok (.ifCond .eq 20, 3) := dk_153 0 20 (dk_at dksX1_hooks_0 14 rfl rfl)
theorem dX1_hooks_17 : decode cX1_hooks 17 = .ok (.iload_n 1, 1) := dk_27 (dk_at dksX1_hooks_0 17 rfl rfl)
theorem dX1_hooks_18 : decode cX1_hooks 18 = .ok (.iconst 1, 1) := dk_4 (dk_at dksX1_hooks_0 18 rfl rfl)
theorem dX1_hooks_19 : decode cX1_hooks 19 = .ok (.bipush 6, 2) := dk_16 6 (dk_at dksX1_hooks_0 19 rfl rfl)
theorem dX1_hooks_21 : decode cX1_hooks 21 = .ok (.aload_n 0, 1) := dk_42 (dk_at dksX1_hooks_0 21 rfl rfl)
theorem dX1_hooks_22 : decode cX1_hooks 22 = .ok (.getfield 222, 3) := dk_180 0 222 (dk_at dksX1_hooks_1 0 rfl rfl)
theorem dX1_hooks_25 : decode cX1_hooks 25 = .ok (.invokestatic 409, 3) := dk_184 1 153 (dk_at dksX1_hooks_1 3 rfl rfl)
theorem dX1_hooks_28 : decode cX1_hooks 28 = .ok (.invokestatic 271, 3) := dk_184 1 15 (dk_at dksX1_hooks_1 6 rfl rfl)
theorem dX1_hooks_31 : decode cX1_hooks 31 = .ok (.ifCond .ne 5, 3) := dk_154 0 5 (dk_at dksX1_hooks_1 9 rfl rfl)
theorem dX1_hooks_34 : decode cX1_hooks 34 = .ok (.iconst (-1), 1) := dk_2 (dk_at dksX1_hooks_1 12 rfl rfl)
theorem dX1_hooks_35 : decode cX1_hooks 35 = .ok (.ireturn, 1) := dk_172 (dk_at dksX1_hooks_1 13 rfl rfl)
theorem dX1_hooks_36 : decode cX1_hooks 36 = .ok (.iconst 0, 1) := dk_3 (dk_at dksX1_hooks_1 14 rfl rfl)
theorem dX1_hooks_37 : decode cX1_hooks 37 = .ok (.istore_n 2, 1) := dk_61 (dk_at dksX1_hooks_1 15 rfl rfl)
theorem dX1_hooks_38 : decode cX1_hooks 38 = .ok (.iload_n 2, 1) := dk_28 (dk_at dksX1_hooks_1 16 rfl rfl)
theorem dX1_hooks_39 : decode cX1_hooks 39 = .ok (.aload_n 0, 1) := dk_42 (dk_at dksX1_hooks_1 17 rfl rfl)
theorem dX1_hooks_40 : decode cX1_hooks 40 = .ok (.getfield 222, 3) := dk_180 0 222 (dk_at dksX1_hooks_1 18 rfl rfl)
theorem dX1_hooks_43 : decode cX1_hooks 43 = .ok (.if_icmp .ge 40, 3) := dk_162 0 40 (dk_at dksX1_hooks_1 21 rfl rfl)
theorem dX1_hooks_46 : decode cX1_hooks 46 = .ok (.aload_n 0, 1) := dk_42 (dk_at dksX1_hooks_2 0 rfl rfl)
theorem dX1_hooks_47 : decode cX1_hooks 47 = .ok (.iload_n 2, 1) := dk_28 (dk_at dksX1_hooks_2 1 rfl rfl)
theorem dX1_hooks_48 : decode cX1_hooks 48 = .ok (.invokevirtual 311, 3) := dk_182 1 55 (dk_at dksX1_hooks_2 2 rfl rfl)
theorem dX1_hooks_51 : decode cX1_hooks 51 = .ok (.bipush 99, 2) := dk_16 99 (dk_at dksX1_hooks_2 5 rfl rfl)
theorem dX1_hooks_53 : decode cX1_hooks 53 = .ok (.if_icmp .gt 22, 3) := dk_163 0 22 (dk_at dksX1_hooks_2 7 rfl rfl)
theorem dX1_hooks_56 : decode cX1_hooks 56 = .ok (.iload_n 2, 1) := dk_28 (dk_at dksX1_hooks_2 10 rfl rfl)
theorem dX1_hooks_57 : decode cX1_hooks 57 = .ok (.ifCond .le 20, 3) := dk_158 0 20 (dk_at dksX1_hooks_2 11 rfl rfl)
theorem dX1_hooks_60 : decode cX1_hooks 60 = .ok (.aload_n 0, 1) := dk_42 (dk_at dksX1_hooks_2 14 rfl rfl)
theorem dX1_hooks_61 : decode cX1_hooks 61 = .ok (.iload_n 2, 1) := dk_28 (dk_at dksX1_hooks_2 15 rfl rfl)
theorem dX1_hooks_62 : decode cX1_hooks 62 = .ok (.invokevirtual 311, 3) := dk_182 1 55 (dk_at dksX1_hooks_2 16 rfl rfl)
theorem dX1_hooks_65 : decode cX1_hooks 65 = .ok (.aload_n 0, 1) := dk_42 (dk_at dksX1_hooks_2 19 rfl rfl)
theorem dX1_hooks_66 : decode cX1_hooks 66 = .ok (.iload_n 2, 1) := dk_28 (dk_at dksX1_hooks_2 20 rfl rfl)
theorem dX1_hooks_67 : decode cX1_hooks 67 = .ok (.iconst 1, 1) := dk_4 (dk_at dksX1_hooks_2 21 rfl rfl)
theorem dX1_hooks_68 : decode cX1_hooks 68 = .ok (.isub, 1) := dk_100 (dk_at dksX1_hooks_2 22 rfl rfl)
theorem dX1_hooks_69 : decode cX1_hooks 69 = .ok (.invokevirtual 311, 3) := dk_182 1 55 (dk_at dksX1_hooks_3 0 rfl rfl)
theorem dX1_hooks_72 : decode cX1_hooks 72 = .ok (.if_icmp .gt 5, 3) := dk_163 0 5 (dk_at dksX1_hooks_3 3 rfl rfl)
theorem dX1_hooks_75 : decode cX1_hooks 75 = .ok (.iconst (-1), 1) := dk_2 (dk_at dksX1_hooks_3 6 rfl rfl)
theorem dX1_hooks_76 : decode cX1_hooks 76 = .ok (.ireturn, 1) := dk_172 (dk_at dksX1_hooks_3 7 rfl rfl)
theorem dX1_hooks_77 : decode cX1_hooks 77 = .ok (.iinc 2 1, 3) := dk_132 2 1 (dk_at dksX1_hooks_3 8 rfl rfl)
theorem dX1_hooks_80 : decode cX1_hooks 80 = .ok (.goto (-42), 3) := dk_167 255 214 (dk_at dksX1_hooks_3 11 rfl rfl)
theorem dX1_hooks_83 : decode cX1_hooks 83 = .ok (.aload_n 0, 1) := dk_42 (dk_at dksX1_hooks_3 14 rfl rfl)
theorem dX1_hooks_84 : decode cX1_hooks 84 = .ok (.ldc_w 368, 3) := dk_19 1 112 (dk_at dksX1_hooks_3 15 rfl rfl)
theorem dX1_hooks_87 : decode cX1_hooks 87 = .ok (.putfield 414, 3) := dk_181 1 158 (dk_at dksX1_hooks_3 18 rfl rfl)
theorem dX1_hooks_90 : decode cX1_hooks 90 = .ok (.aload_n 0, 1) := dk_42 (dk_at dksX1_hooks_3 21 rfl rfl)
theorem dX1_hooks_91 : decode cX1_hooks 91 = .ok (.iconst 0, 1) := dk_3 (dk_at dksX1_hooks_3 22 rfl rfl)
theorem dX1_hooks_92 : decode cX1_hooks 92 = .ok (.iconst 0, 1) := dk_3 (dk_at dksX1_hooks_3 23 rfl rfl)
theorem dX1_hooks_93 : decode cX1_hooks 93 = .ok (.iload_n 1, 1) := dk_27 (dk_at dksX1_hooks_4 0 rfl rfl)
theorem dX1_hooks_94 : decode cX1_hooks 94 = .ok (.invokevirtual 417, 3) := dk_182 1 161 (dk_at dksX1_hooks_4 1 rfl rfl)
theorem dX1_hooks_97 : decode cX1_hooks 97 = .ok (.aload_n 0, 1) := dk_42 (dk_at dksX1_hooks_4 4 rfl rfl)
theorem dX1_hooks_98 : decode cX1_hooks 98 = .ok (.iload_n 1, 1) := dk_27 (dk_at dksX1_hooks_4 5 rfl rfl)
theorem dX1_hooks_99 : decode cX1_hooks 99 = .ok (.putfield 421, 3) := dk_181 1 165 (dk_at dksX1_hooks_4 6 rfl rfl)
theorem dX1_hooks_102 : decode cX1_hooks 102 = .ok (.aload_n 0, 1) := dk_42 (dk_at dksX1_hooks_4 9 rfl rfl)
theorem dX1_hooks_103 : decode cX1_hooks 103 = .ok (.getfield 414, 3) := dk_180 1 158 (dk_at dksX1_hooks_4 10 rfl rfl)
theorem dX1_hooks_106 : decode cX1_hooks 106 = .ok (.ireturn, 1) := dk_172 (dk_at dksX1_hooks_4 13 rfl rfl)
abbrev cX1_hang : ByteArray := prog_1_method_38_code
def yX1_hang : MethodName := ⟨RX1, "hang", "(III)V"⟩
def dkwX1_hang_3 : List UInt8 := [96, 21, 4, 4, 96, 29, 182, 1, 161, 132, 4, 1, 167, 255, 220, 177]
abbrev dktX1_hang_3 : List UInt8 := dkwX1_hang_3 ++ []
def dkwX1_hang_2 : List UInt8 := [21, 4, 42, 180, 0, 222, 162, 0, 33, 42, 180, 0, 160, 27, 42, 21, 4, 182, 1, 55, 79, 42, 27, 4]
abbrev dktX1_hang_2 : List UInt8 := dkwX1_hang_2 ++ dktX1_hang_3
def dkwX1_hang_1 : List UInt8 := [21, 4, 181, 1, 158, 42, 180, 0, 160, 3, 42, 180, 0, 163, 3, 29, 184, 1, 103, 177, 28, 54, 4]
abbrev dktX1_hang_1 : List UInt8 := dkwX1_hang_1 ++ dktX1_hang_2
def dkwX1_hang_0 : List UInt8 := [27, 29, 160, 0, 41, 42, 29, 182, 1, 168, 54, 4, 21, 4, 42, 180, 1, 158, 161, 0, 4, 177, 42]
abbrev dktX1_hang_0 : List UInt8 := dkwX1_hang_0 ++ dktX1_hang_1
theorem dksX1_hang_0 : cX1_hang.data.toList.drop 0 = dktX1_hang_0 := by decide +kernel
theorem dksX1_hang_1 : cX1_hang.data.toList.drop 23 = dktX1_hang_1 := dk_seg dksX1_hang_0 23 rfl rfl
theorem dksX1_hang_2 : cX1_hang.data.toList.drop 46 = dktX1_hang_2 := dk_seg dksX1_hang_1 23 rfl rfl
theorem dksX1_hang_3 : cX1_hang.data.toList.drop 70 = dktX1_hang_3 := dk_seg dksX1_hang_2 24 rfl rfl
theorem dX1_hang_0 : decode cX1_hang 0 = .ok (.iload_n 1, 1) := dk_27 (dk_at dksX1_hang_0 0 rfl rfl)
theorem dX1_hang_1 : decode cX1_hang 1 = .ok (.iload_n 3, 1) := dk_29 (dk_at dksX1_hang_0 1 rfl rfl)
theorem dX1_hang_2 : decode cX1_hang 2 = .ok (.if_icmp .ne 41, 3) := dk_160 0 41 (dk_at dksX1_hang_0 2 rfl rfl)
theorem dX1_hang_5 : decode cX1_hang 5 = .ok (.aload_n 0, 1) := dk_42 (dk_at dksX1_hang_0 5 rfl rfl)
theorem dX1_hang_6 : decode cX1_hang 6 = .ok (.iload_n 3, 1) := dk_29 (dk_at dksX1_hang_0 6 rfl rfl)
theorem dX1_hang_7 : decode cX1_hang 7 = .ok (.invokevirtual 424, 3) := dk_182 1 168 (dk_at dksX1_hang_0 7 rfl rfl)
theorem dX1_hang_10 : decode cX1_hang 10 = .ok (.istore 4, 2) := dk_54 4 (dk_at dksX1_hang_0 10 rfl rfl)
theorem dX1_hang_12 : decode cX1_hang 12 = .ok (.iload 4, 2) := dk_21 4 (dk_at dksX1_hang_0 12 rfl rfl)
theorem dX1_hang_14 : decode cX1_hang 14 = .ok (.aload_n 0, 1) := dk_42 (dk_at dksX1_hang_0 14 rfl rfl)
theorem dX1_hang_15 : decode cX1_hang 15 = .ok (.getfield 414, 3) := dk_180 1 158 (dk_at dksX1_hang_0 15 rfl rfl)
theorem dX1_hang_18 : decode cX1_hang 18 = .ok (.if_icmp .lt 4, 3) := dk_161 0 4 (dk_at dksX1_hang_0 18 rfl rfl)
theorem dX1_hang_21 : decode cX1_hang 21 = .ok (.return_, 1) := dk_177 (dk_at dksX1_hang_0 21 rfl rfl)
theorem dX1_hang_22 : decode cX1_hang 22 = .ok (.aload_n 0, 1) := dk_42 (dk_at dksX1_hang_0 22 rfl rfl)
theorem dX1_hang_23 : decode cX1_hang 23 = .ok (.iload 4, 2) := dk_21 4 (dk_at dksX1_hang_1 0 rfl rfl)
theorem dX1_hang_25 : decode cX1_hang 25 = .ok (.putfield 414, 3) := dk_181 1 158 (dk_at dksX1_hang_1 2 rfl rfl)
theorem dX1_hang_28 : decode cX1_hang 28 = .ok (.aload_n 0, 1) := dk_42 (dk_at dksX1_hang_1 5 rfl rfl)
theorem dX1_hang_29 : decode cX1_hang 29 = .ok (.getfield 160, 3) := dk_180 0 160 (dk_at dksX1_hang_1 6 rfl rfl)
theorem dX1_hang_32 : decode cX1_hang 32 = .ok (.iconst 0, 1) := dk_3 (dk_at dksX1_hang_1 9 rfl rfl)
theorem dX1_hang_33 : decode cX1_hang 33 = .ok (.aload_n 0, 1) := dk_42 (dk_at dksX1_hang_1 10 rfl rfl)
theorem dX1_hang_34 : decode cX1_hang 34 = .ok (.getfield 163, 3) := dk_180 0 163 (dk_at dksX1_hang_1 11 rfl rfl)
theorem dX1_hang_37 : decode cX1_hang 37 = .ok (.iconst 0, 1) := dk_3 (dk_at dksX1_hang_1 14 rfl rfl)
theorem dX1_hang_38 : decode cX1_hang 38 = .ok (.iload_n 3, 1) := dk_29 (dk_at dksX1_hang_1 15 rfl rfl)
theorem dX1_hang_39 : decode cX1_hang 39 = .ok (.invokestatic 359, 3) := dk_184 1 103 (dk_at dksX1_hang_1 16 rfl rfl)
theorem dX1_hang_42 : decode cX1_hang 42 = .ok (.return_, 1) := dk_177 (dk_at dksX1_hang_1 19 rfl rfl)
theorem dX1_hang_43 : decode cX1_hang 43 = .ok (.iload_n 2, 1) := dk_28 (dk_at dksX1_hang_1 20 rfl rfl)
theorem dX1_hang_44 : decode cX1_hang 44 = .ok (.istore 4, 2) := dk_54 4 (dk_at dksX1_hang_1 21 rfl rfl)
theorem dX1_hang_46 : decode cX1_hang 46 = .ok (.iload 4, 2) := dk_21 4 (dk_at dksX1_hang_2 0 rfl rfl)
theorem dX1_hang_48 : decode cX1_hang 48 = .ok (.aload_n 0, 1) := dk_42 (dk_at dksX1_hang_2 2 rfl rfl)
theorem dX1_hang_49 : decode cX1_hang 49 = .ok (.getfield 222, 3) := dk_180 0 222 (dk_at dksX1_hang_2 3 rfl rfl)
theorem dX1_hang_52 : decode cX1_hang 52 = .ok (.if_icmp .ge 33, 3) := dk_162 0 33 (dk_at dksX1_hang_2 6 rfl rfl)
theorem dX1_hang_55 : decode cX1_hang 55 = .ok (.aload_n 0, 1) := dk_42 (dk_at dksX1_hang_2 9 rfl rfl)
theorem dX1_hang_56 : decode cX1_hang 56 = .ok (.getfield 160, 3) := dk_180 0 160 (dk_at dksX1_hang_2 10 rfl rfl)
theorem dX1_hang_59 : decode cX1_hang 59 = .ok (.iload_n 1, 1) := dk_27 (dk_at dksX1_hang_2 13 rfl rfl)
theorem dX1_hang_60 : decode cX1_hang 60 = .ok (.aload_n 0, 1) := dk_42 (dk_at dksX1_hang_2 14 rfl rfl)
theorem dX1_hang_61 : decode cX1_hang 61 = .ok (.iload 4, 2) := dk_21 4 (dk_at dksX1_hang_2 15 rfl rfl)
theorem dX1_hang_63 : decode cX1_hang 63 = .ok (.invokevirtual 311, 3) := dk_182 1 55 (dk_at dksX1_hang_2 17 rfl rfl)
theorem dX1_hang_66 : decode cX1_hang 66 = .ok (.iastore, 1) := dk_79 (dk_at dksX1_hang_2 20 rfl rfl)
theorem dX1_hang_67 : decode cX1_hang 67 = .ok (.aload_n 0, 1) := dk_42 (dk_at dksX1_hang_2 21 rfl rfl)
theorem dX1_hang_68 : decode cX1_hang 68 = .ok (.iload_n 1, 1) := dk_27 (dk_at dksX1_hang_2 22 rfl rfl)
theorem dX1_hang_69 : decode cX1_hang 69 = .ok (.iconst 1, 1) := dk_4 (dk_at dksX1_hang_2 23 rfl rfl)
theorem dX1_hang_70 : decode cX1_hang 70 = .ok (.iadd, 1) := dk_96 (dk_at dksX1_hang_3 0 rfl rfl)
theorem dX1_hang_71 : decode cX1_hang 71 = .ok (.iload 4, 2) := dk_21 4 (dk_at dksX1_hang_3 1 rfl rfl)
theorem dX1_hang_73 : decode cX1_hang 73 = .ok (.iconst 1, 1) := dk_4 (dk_at dksX1_hang_3 3 rfl rfl)
theorem dX1_hang_74 : decode cX1_hang 74 = .ok (.iadd, 1) := dk_96 (dk_at dksX1_hang_3 4 rfl rfl)
theorem dX1_hang_75 : decode cX1_hang 75 = .ok (.iload_n 3, 1) := dk_29 (dk_at dksX1_hang_3 5 rfl rfl)
theorem dX1_hang_76 : decode cX1_hang 76 = .ok (.invokevirtual 417, 3) := dk_182 1 161 (dk_at dksX1_hang_3 6 rfl rfl)
theorem dX1_hang_79 : decode cX1_hang 79 = .ok (.iinc 4 1, 3) := dk_132 4 1 (dk_at dksX1_hang_3 9 rfl rfl)
theorem dX1_hang_82 : decode cX1_hang 82 = .ok (.goto (-36), 3) := dk_167 255 220 (dk_at dksX1_hang_3 12 rfl rfl)
theorem dX1_hang_85 : decode cX1_hang 85 = .ok (.return_, 1) := dk_177 (dk_at dksX1_hang_3 15 rfl rfl)
abbrev cX1_wayBy : ByteArray := prog_1_method_39_code
def yX1_wayBy : MethodName := ⟨RX1, "wayBy", "(I)I"⟩
def dkwX1_wayBy_2 : List UInt8 := [54, 4, 132, 5, 1, 167, 255, 224, 28, 21, 4, 184, 1, 174, 61, 132, 3, 1, 167, 255, 195, 28, 172]
abbrev dktX1_wayBy_2 : List UInt8 := dkwX1_wayBy_2 ++ []
def dkwX1_wayBy_1 : List UInt8 := [162, 0, 32, 21, 4, 42, 29, 182, 1, 55, 42, 180, 0, 160, 21, 5, 46, 100, 184, 1, 171, 184, 1, 153]
abbrev dktX1_wayBy_1 : List UInt8 := dkwX1_wayBy_1 ++ dktX1_wayBy_2
def dkwX1_wayBy_0 : List UInt8 := [3, 61, 3, 62, 29, 42, 180, 0, 222, 162, 0, 59, 19, 1, 112, 54, 4, 3, 54, 5, 21, 5, 27]
abbrev dktX1_wayBy_0 : List UInt8 := dkwX1_wayBy_0 ++ dktX1_wayBy_1
theorem dksX1_wayBy_0 : cX1_wayBy.data.toList.drop 0 = dktX1_wayBy_0 := by decide +kernel
theorem dksX1_wayBy_1 : cX1_wayBy.data.toList.drop 23 = dktX1_wayBy_1 := dk_seg dksX1_wayBy_0 23 rfl rfl
theorem dksX1_wayBy_2 : cX1_wayBy.data.toList.drop 47 = dktX1_wayBy_2 := dk_seg dksX1_wayBy_1 24 rfl rfl
theorem dX1_wayBy_0 : decode cX1_wayBy 0 = .ok (.iconst 0, 1) := dk_3 (dk_at dksX1_wayBy_0 0 rfl rfl)
theorem dX1_wayBy_1 : decode cX1_wayBy 1 = .ok (.istore_n 2, 1) := dk_61 (dk_at dksX1_wayBy_0 1 rfl rfl)
theorem dX1_wayBy_2 : decode cX1_wayBy 2 = .ok (.iconst 0, 1) := dk_3 (dk_at dksX1_wayBy_0 2 rfl rfl)
theorem dX1_wayBy_3 : decode cX1_wayBy 3 = .ok (.istore_n 3, 1) := dk_62 (dk_at dksX1_wayBy_0 3 rfl rfl)
theorem dX1_wayBy_4 : decode cX1_wayBy 4 = .ok (.iload_n 3, 1) := dk_29 (dk_at dksX1_wayBy_0 4 rfl rfl)
theorem dX1_wayBy_5 : decode cX1_wayBy 5 = .ok (.aload_n 0, 1) := dk_42 (dk_at dksX1_wayBy_0 5 rfl rfl)
theorem dX1_wayBy_6 : decode cX1_wayBy 6 = .ok (.getfield 222, 3) := dk_180 0 222 (dk_at dksX1_wayBy_0 6 rfl rfl)
theorem dX1_wayBy_9 : decode cX1_wayBy 9 = .ok (.if_icmp .ge 59, 3) := dk_162 0 59 (dk_at dksX1_wayBy_0 9 rfl rfl)
theorem dX1_wayBy_12 : decode cX1_wayBy 12 = .ok (.ldc_w 368, 3) := dk_19 1 112 (dk_at dksX1_wayBy_0 12 rfl rfl)
theorem dX1_wayBy_15 : decode cX1_wayBy 15 = .ok (.istore 4, 2) := dk_54 4 (dk_at dksX1_wayBy_0 15 rfl rfl)
theorem dX1_wayBy_17 : decode cX1_wayBy 17 = .ok (.iconst 0, 1) := dk_3 (dk_at dksX1_wayBy_0 17 rfl rfl)
theorem dX1_wayBy_18 : decode cX1_wayBy 18 = .ok (.istore 5, 2) := dk_54 5 (dk_at dksX1_wayBy_0 18 rfl rfl)
theorem dX1_wayBy_20 : decode cX1_wayBy 20 = .ok (.iload 5, 2) := dk_21 5 (dk_at dksX1_wayBy_0 20 rfl rfl)
theorem dX1_wayBy_22 : decode cX1_wayBy 22 = .ok (.iload_n 1, 1) := dk_27 (dk_at dksX1_wayBy_0 22 rfl rfl)
theorem dX1_wayBy_23 : decode cX1_wayBy 23 = .ok (.if_icmp .ge 32, 3) := dk_162 0 32 (dk_at dksX1_wayBy_1 0 rfl rfl)
theorem dX1_wayBy_26 : decode cX1_wayBy 26 = .ok (.iload 4, 2) := dk_21 4 (dk_at dksX1_wayBy_1 3 rfl rfl)
theorem dX1_wayBy_28 : decode cX1_wayBy 28 = .ok (.aload_n 0, 1) := dk_42 (dk_at dksX1_wayBy_1 5 rfl rfl)
theorem dX1_wayBy_29 : decode cX1_wayBy 29 = .ok (.iload_n 3, 1) := dk_29 (dk_at dksX1_wayBy_1 6 rfl rfl)
theorem dX1_wayBy_30 : decode cX1_wayBy 30 = .ok (.invokevirtual 311, 3) := dk_182 1 55 (dk_at dksX1_wayBy_1 7 rfl rfl)
theorem dX1_wayBy_33 : decode cX1_wayBy 33 = .ok (.aload_n 0, 1) := dk_42 (dk_at dksX1_wayBy_1 10 rfl rfl)
theorem dX1_wayBy_34 : decode cX1_wayBy 34 = .ok (.getfield 160, 3) := dk_180 0 160 (dk_at dksX1_wayBy_1 11 rfl rfl)
theorem dX1_wayBy_37 : decode cX1_wayBy 37 = .ok (.iload 5, 2) := dk_21 5 (dk_at dksX1_wayBy_1 14 rfl rfl)
theorem dX1_wayBy_39 : decode cX1_wayBy 39 = .ok (.iaload, 1) := dk_46 (dk_at dksX1_wayBy_1 16 rfl rfl)
theorem dX1_wayBy_40 : decode cX1_wayBy 40 = .ok (.isub, 1) := dk_100 (dk_at dksX1_wayBy_1 17 rfl rfl)
theorem dX1_wayBy_41 : decode cX1_wayBy 41 = .ok (.invokestatic 427, 3) := dk_184 1 171 (dk_at dksX1_wayBy_1 18 rfl rfl)
theorem dX1_wayBy_44 : decode cX1_wayBy 44 = .ok (.invokestatic 409, 3) := dk_184 1 153 (dk_at dksX1_wayBy_1 21 rfl rfl)
theorem dX1_wayBy_47 : decode cX1_wayBy 47 = .ok (.istore 4, 2) := dk_54 4 (dk_at dksX1_wayBy_2 0 rfl rfl)
theorem dX1_wayBy_49 : decode cX1_wayBy 49 = .ok (.iinc 5 1, 3) := dk_132 5 1 (dk_at dksX1_wayBy_2 2 rfl rfl)
theorem dX1_wayBy_52 : decode cX1_wayBy 52 = .ok (.goto (-32), 3) := dk_167 255 224 (dk_at dksX1_wayBy_2 5 rfl rfl)
theorem dX1_wayBy_55 : decode cX1_wayBy 55 = .ok (.iload_n 2, 1) := dk_28 (dk_at dksX1_wayBy_2 8 rfl rfl)
theorem dX1_wayBy_56 : decode cX1_wayBy 56 = .ok (.iload 4, 2) := dk_21 4 (dk_at dksX1_wayBy_2 9 rfl rfl)
theorem dX1_wayBy_58 : decode cX1_wayBy 58 = .ok (.invokestatic 430, 3) := dk_184 1 174 (dk_at dksX1_wayBy_2 11 rfl rfl)
theorem dX1_wayBy_61 : decode cX1_wayBy 61 = .ok (.istore_n 2, 1) := dk_61 (dk_at dksX1_wayBy_2 14 rfl rfl)
theorem dX1_wayBy_62 : decode cX1_wayBy 62 = .ok (.iinc 3 1, 3) := dk_132 3 1 (dk_at dksX1_wayBy_2 15 rfl rfl)
theorem dX1_wayBy_65 : decode cX1_wayBy 65 = .ok (.goto (-61), 3) := dk_167 255 195 (dk_at dksX1_wayBy_2 18 rfl rfl)
theorem dX1_wayBy_68 : decode cX1_wayBy 68 = .ok (.iload_n 2, 1) := dk_28 (dk_at dksX1_wayBy_2 21 rfl rfl)
theorem dX1_wayBy_69 : decode cX1_wayBy 69 = .ok (.ireturn, 1) := dk_172 (dk_at dksX1_wayBy_2 22 rfl rfl)
abbrev cX1_hookAt : ByteArray := prog_1_method_40_code
def yX1_hookAt : MethodName := ⟨RX1, "hookAt", "(I)I"⟩
def dkwX1_hookAt_1 : List UInt8 := [172]
abbrev dktX1_hookAt_1 : List UInt8 := dkwX1_hookAt_1 ++ []
def dkwX1_hookAt_0 : List UInt8 := [27, 3, 42, 180, 1, 165, 4, 100, 184, 1, 15, 153, 0, 12, 42, 180, 0, 163, 27, 46, 167, 0, 4, 2]
abbrev dktX1_hookAt_0 : List UInt8 := dkwX1_hookAt_0 ++ dktX1_hookAt_1
theorem dksX1_hookAt_0 : cX1_hookAt.data.toList.drop 0 = dktX1_hookAt_0 := by decide +kernel
theorem dksX1_hookAt_1 : cX1_hookAt.data.toList.drop 24 = dktX1_hookAt_1 := dk_seg dksX1_hookAt_0 24 rfl rfl
theorem dX1_hookAt_0 : decode cX1_hookAt 0 = .ok (.iload_n 1, 1) := dk_27 (dk_at dksX1_hookAt_0 0 rfl rfl)
theorem dX1_hookAt_1 : decode cX1_hookAt 1 = .ok (.iconst 0, 1) := dk_3 (dk_at dksX1_hookAt_0 1 rfl rfl)
theorem dX1_hookAt_2 : decode cX1_hookAt 2 = .ok (.aload_n 0, 1) := dk_42 (dk_at dksX1_hookAt_0 2 rfl rfl)
theorem dX1_hookAt_3 : decode cX1_hookAt 3 = .ok (.getfield 421, 3) := dk_180 1 165 (dk_at dksX1_hookAt_0 3 rfl rfl)
theorem dX1_hookAt_6 : decode cX1_hookAt 6 = .ok (.iconst 1, 1) := dk_4 (dk_at dksX1_hookAt_0 6 rfl rfl)
theorem dX1_hookAt_7 : decode cX1_hookAt 7 = .ok (.isub, 1) := dk_100 (dk_at dksX1_hookAt_0 7 rfl rfl)
theorem dX1_hookAt_8 : decode cX1_hookAt 8 = .ok (.invokestatic 271, 3) := dk_184 1 15 (dk_at dksX1_hookAt_0 8 rfl rfl)
theorem dX1_hookAt_11 : decode cX1_hookAt 11 = .ok (.ifCond .eq 12, 3) := dk_153 0 12 (dk_at dksX1_hookAt_0 11 rfl rfl)
theorem dX1_hookAt_14 : decode cX1_hookAt 14 = .ok (.aload_n 0, 1) := dk_42 (dk_at dksX1_hookAt_0 14 rfl rfl)
theorem dX1_hookAt_15 : decode cX1_hookAt 15 = .ok (.getfield 163, 3) := dk_180 0 163 (dk_at dksX1_hookAt_0 15 rfl rfl)
theorem dX1_hookAt_18 : decode cX1_hookAt 18 = .ok (.iload_n 1, 1) := dk_27 (dk_at dksX1_hookAt_0 18 rfl rfl)
theorem dX1_hookAt_19 : decode cX1_hookAt 19 = .ok (.iaload, 1) := dk_46 (dk_at dksX1_hookAt_0 19 rfl rfl)
theorem dX1_hookAt_20 : decode cX1_hookAt 20 = .ok (.goto 4, 3) := dk_167 0 4 (dk_at dksX1_hookAt_0 20 rfl rfl)
theorem dX1_hookAt_23 : decode cX1_hookAt 23 = .ok (.iconst (-1), 1) := dk_2 (dk_at dksX1_hookAt_0 23 rfl rfl)
theorem dX1_hookAt_24 : decode cX1_hookAt 24 = .ok (.ireturn, 1) := dk_172 (dk_at dksX1_hookAt_1 0 rfl rfl)
abbrev cX1_fire : ByteArray := prog_1_method_42_code
def yX1_fire : MethodName := ⟨RX1, "fire", "(IIII)I"⟩
def dkwX1_fire_8 : List UInt8 := [21, 5, 4, 96, 181, 1, 191, 132, 5, 1, 167, 255, 145, 42, 180, 0, 169, 180, 1, 203, 172]
abbrev dktX1_fire_8 : List UInt8 := dkwX1_fire_8 ++ []
def dkwX1_fire_7 : List UInt8 := [28, 182, 1, 201, 42, 180, 1, 191, 2, 160, 0, 21, 42, 180, 0, 169, 182, 1, 189, 154, 0, 11, 42]
abbrev dktX1_fire_7 : List UInt8 := dkwX1_fire_7 ++ dktX1_fire_8
def dkwX1_fire_6 : List UInt8 := [180, 0, 169, 42, 180, 0, 176, 3, 21, 5, 21, 4, 100, 184, 1, 174, 16, 21, 112, 50, 29, 182, 1, 198]
abbrev dktX1_fire_6 : List UInt8 := dkwX1_fire_6 ++ dktX1_fire_7
def dkwX1_fire_5 : List UInt8 := [183, 0, 168, 83, 42, 180, 0, 176, 21, 5, 16, 21, 112, 50, 42, 180, 0, 169, 182, 1, 194, 42]
abbrev dktX1_fire_5 : List UInt8 := dkwX1_fire_5 ++ dktX1_fire_6
def dkwX1_fire_4 : List UInt8 := [21, 5, 16, 21, 112, 50, 199, 0, 20, 42, 180, 0, 176, 21, 5, 16, 21, 112, 187, 0, 166, 89]
abbrev dktX1_fire_4 : List UInt8 := dkwX1_fire_4 ++ dktX1_fire_5
def dkwX1_fire_3 : List UInt8 := [154, 0, 7, 3, 167, 0, 4, 2, 181, 1, 191, 3, 54, 5, 21, 5, 27, 162, 0, 111, 42, 180, 0, 176]
abbrev dktX1_fire_3 : List UInt8 := dkwX1_fire_3 ++ dktX1_fire_4
def dkwX1_fire_2 : List UInt8 := [42, 180, 0, 96, 180, 0, 241, 182, 1, 183, 42, 4, 181, 1, 186, 42, 42, 180, 0, 169, 182, 1, 189]
abbrev dktX1_fire_2 : List UInt8 := dkwX1_fire_2 ++ dktX1_fire_3
def dkwX1_fire_1 : List UInt8 := [29, 182, 1, 180, 153, 0, 14, 21, 4, 3, 16, 20, 184, 1, 15, 154, 0, 5, 2, 172, 42, 180, 0, 169]
abbrev dktX1_fire_1 : List UInt8 := dkwX1_fire_1 ++ dktX1_fire_2
def dkwX1_fire_0 : List UInt8 := [27, 3, 16, 60, 184, 1, 15, 153, 0, 35, 28, 184, 1, 177, 153, 0, 28, 42, 180, 0, 96, 180, 0, 241]
abbrev dktX1_fire_0 : List UInt8 := dkwX1_fire_0 ++ dktX1_fire_1
theorem dksX1_fire_0 : cX1_fire.data.toList.drop 0 = dktX1_fire_0 := by decide +kernel
theorem dksX1_fire_1 : cX1_fire.data.toList.drop 24 = dktX1_fire_1 := dk_seg dksX1_fire_0 24 rfl rfl
theorem dksX1_fire_2 : cX1_fire.data.toList.drop 48 = dktX1_fire_2 := dk_seg dksX1_fire_1 24 rfl rfl
theorem dksX1_fire_3 : cX1_fire.data.toList.drop 71 = dktX1_fire_3 := dk_seg dksX1_fire_2 23 rfl rfl
theorem dksX1_fire_4 : cX1_fire.data.toList.drop 95 = dktX1_fire_4 := dk_seg dksX1_fire_3 24 rfl rfl
theorem dksX1_fire_5 : cX1_fire.data.toList.drop 117 = dktX1_fire_5 := dk_seg dksX1_fire_4 22 rfl rfl
theorem dksX1_fire_6 : cX1_fire.data.toList.drop 139 = dktX1_fire_6 := dk_seg dksX1_fire_5 22 rfl rfl
theorem dksX1_fire_7 : cX1_fire.data.toList.drop 163 = dktX1_fire_7 := dk_seg dksX1_fire_6 24 rfl rfl
theorem dksX1_fire_8 : cX1_fire.data.toList.drop 186 = dktX1_fire_8 := dk_seg dksX1_fire_7 23 rfl rfl
theorem dX1_fire_0 : decode cX1_fire 0 = .ok (.iload_n 1, 1) := dk_27 (dk_at dksX1_fire_0 0 rfl rfl)
theorem dX1_fire_1 : decode cX1_fire 1 = .ok (.iconst 0, 1) := dk_3 (dk_at dksX1_fire_0 1 rfl rfl)
theorem dX1_fire_2 : decode cX1_fire 2 = .ok (.bipush 60, 2) := dk_16 60 (dk_at dksX1_fire_0 2 rfl rfl)
theorem dX1_fire_4 : decode cX1_fire 4 = .ok (.invokestatic 271, 3) := dk_184 1 15 (dk_at dksX1_fire_0 4 rfl rfl)
theorem dX1_fire_7 : decode cX1_fire 7 = .ok (.ifCond .eq 35, 3) := dk_153 0 35 (dk_at dksX1_fire_0 7 rfl rfl)
theorem dX1_fire_10 : decode cX1_fire 10 = .ok (.iload_n 2, 1) := dk_28 (dk_at dksX1_fire_0 10 rfl rfl)
theorem dX1_fire_11 : decode cX1_fire 11 = .ok (.invokestatic 433, 3) := dk_184 1 177 (dk_at dksX1_fire_0 11 rfl rfl)
theorem dX1_fire_14 : decode cX1_fire 14 = .ok (.ifCond .eq 28, 3) := dk_153 0 28 (dk_at dksX1_fire_0 14 rfl rfl)
theorem dX1_fire_17 : decode cX1_fire 17 = .ok (.aload_n 0, 1) := dk_42 (dk_at dksX1_fire_0 17 rfl rfl)
theorem dX1_fire_18 : decode cX1_fire 18 = .ok (.getfield 96, 3) := dk_180 0 96 (dk_at dksX1_fire_0 18 rfl rfl)
theorem dX1_fire_21 : decode cX1_fire 21 = .ok (.getfield 241, 3) := dk_180 0 241 (dk_at dksX1_fire_0 21 rfl rfl)
theorem dX1_fire_24 : decode cX1_fire 24 = .ok (.iload_n 3, 1) := dk_29 (dk_at dksX1_fire_1 0 rfl rfl)
theorem dX1_fire_25 : decode cX1_fire 25 = .ok (.invokevirtual 436, 3) := dk_182 1 180 (dk_at dksX1_fire_1 1 rfl rfl)
theorem dX1_fire_28 : decode cX1_fire 28 = .ok (.ifCond .eq 14, 3) := dk_153 0 14 (dk_at dksX1_fire_1 4 rfl rfl)
theorem dX1_fire_31 : decode cX1_fire 31 = .ok (.iload 4, 2) := dk_21 4 (dk_at dksX1_fire_1 7 rfl rfl)
theorem dX1_fire_33 : decode cX1_fire 33 = .ok (.iconst 0, 1) := dk_3 (dk_at dksX1_fire_1 9 rfl rfl)
theorem dX1_fire_34 : decode cX1_fire 34 = .ok (.bipush 20, 2) := dk_16 20 (dk_at dksX1_fire_1 10 rfl rfl)
theorem dX1_fire_36 : decode cX1_fire 36 = .ok (.invokestatic 271, 3) := dk_184 1 15 (dk_at dksX1_fire_1 12 rfl rfl)
theorem dX1_fire_39 : decode cX1_fire 39 = .ok (.ifCond .ne 5, 3) := dk_154 0 5 (dk_at dksX1_fire_1 15 rfl rfl)
theorem dX1_fire_42 : decode cX1_fire 42 = .ok (.iconst (-1), 1) := dk_2 (dk_at dksX1_fire_1 18 rfl rfl)
theorem dX1_fire_43 : decode cX1_fire 43 = .ok (.ireturn, 1) := dk_172 (dk_at dksX1_fire_1 19 rfl rfl)
theorem dX1_fire_44 : decode cX1_fire 44 = .ok (.aload_n 0, 1) := dk_42 (dk_at dksX1_fire_1 20 rfl rfl)
theorem dX1_fire_45 : decode cX1_fire 45 = .ok (.getfield 169, 3) := dk_180 0 169 (dk_at dksX1_fire_1 21 rfl rfl)
theorem dX1_fire_48 : decode cX1_fire 48 = .ok (.aload_n 0, 1) := dk_42 (dk_at dksX1_fire_2 0 rfl rfl)
theorem dX1_fire_49 : decode cX1_fire 49 = .ok (.getfield 96, 3) := dk_180 0 96 (dk_at dksX1_fire_2 1 rfl rfl)
theorem dX1_fire_52 : decode cX1_fire 52 = .ok (.getfield 241, 3) := dk_180 0 241 (dk_at dksX1_fire_2 4 rfl rfl)
theorem dX1_fire_55 : decode cX1_fire 55 = .ok (.invokevirtual 439, 3) := dk_182 1 183 (dk_at dksX1_fire_2 7 rfl rfl)
theorem dX1_fire_58 : decode cX1_fire 58 = .ok (.aload_n 0, 1) := dk_42 (dk_at dksX1_fire_2 10 rfl rfl)
theorem dX1_fire_59 : decode cX1_fire 59 = .ok (.iconst 1, 1) := dk_4 (dk_at dksX1_fire_2 11 rfl rfl)
theorem dX1_fire_60 : decode cX1_fire 60 = .ok (.putfield 442, 3) := dk_181 1 186 (dk_at dksX1_fire_2 12 rfl rfl)
theorem dX1_fire_63 : decode cX1_fire 63 = .ok (.aload_n 0, 1) := dk_42 (dk_at dksX1_fire_2 15 rfl rfl)
theorem dX1_fire_64 : decode cX1_fire 64 = .ok (.aload_n 0, 1) := dk_42 (dk_at dksX1_fire_2 16 rfl rfl)
theorem dX1_fire_65 : decode cX1_fire 65 = .ok (.getfield 169, 3) := dk_180 0 169 (dk_at dksX1_fire_2 17 rfl rfl)
theorem dX1_fire_68 : decode cX1_fire 68 = .ok (.invokevirtual 445, 3) := dk_182 1 189 (dk_at dksX1_fire_2 20 rfl rfl)
theorem dX1_fire_71 : decode cX1_fire 71 = .ok (.ifCond .ne 7, 3) := dk_154 0 7 (dk_at dksX1_fire_3 0 rfl rfl)
theorem dX1_fire_74 : decode cX1_fire 74 = .ok (.iconst 0, 1) := dk_3 (dk_at dksX1_fire_3 3 rfl rfl)
theorem dX1_fire_75 : decode cX1_fire 75 = .ok (.goto 4, 3) := dk_167 0 4 (dk_at dksX1_fire_3 4 rfl rfl)
theorem dX1_fire_78 : decode cX1_fire 78 = .ok (.iconst (-1), 1) := dk_2 (dk_at dksX1_fire_3 7 rfl rfl)
theorem dX1_fire_79 : decode cX1_fire 79 = .ok (.putfield 447, 3) := dk_181 1 191 (dk_at dksX1_fire_3 8 rfl rfl)
theorem dX1_fire_82 : decode cX1_fire 82 = .ok (.iconst 0, 1) := dk_3 (dk_at dksX1_fire_3 11 rfl rfl)
theorem dX1_fire_83 : decode cX1_fire 83 = .ok (.istore 5, 2) := dk_54 5 (dk_at dksX1_fire_3 12 rfl rfl)
theorem dX1_fire_85 : decode cX1_fire 85 = .ok (.iload 5, 2) := dk_21 5 (dk_at dksX1_fire_3 14 rfl rfl)
theorem dX1_fire_87 : decode cX1_fire 87 = .ok (.iload_n 1, 1) := dk_27 (dk_at dksX1_fire_3 16 rfl rfl)
theorem dX1_fire_88 : decode cX1_fire 88 = .ok (.if_icmp .ge 111, 3) := dk_162 0 111 (dk_at dksX1_fire_3 17 rfl rfl)
theorem dX1_fire_91 : decode cX1_fire 91 = .ok (.aload_n 0, 1) := dk_42 (dk_at dksX1_fire_3 20 rfl rfl)
theorem dX1_fire_92 : decode cX1_fire 92 = .ok (.getfield 176, 3) := dk_180 0 176 (dk_at dksX1_fire_3 21 rfl rfl)
theorem dX1_fire_95 : decode cX1_fire 95 = .ok (.iload 5, 2) := dk_21 5 (dk_at dksX1_fire_4 0 rfl rfl)
theorem dX1_fire_97 : decode cX1_fire 97 = .ok (.bipush 21, 2) := dk_16 21 (dk_at dksX1_fire_4 2 rfl rfl)
theorem dX1_fire_99 : decode cX1_fire 99 = .ok (.irem, 1) := dk_112 (dk_at dksX1_fire_4 4 rfl rfl)
theorem dX1_fire_100 : decode cX1_fire 100 = .ok (.aaload, 1) := dk_50 (dk_at dksX1_fire_4 5 rfl rfl)
theorem dX1_fire_101 : decode cX1_fire 101 = .ok (.ifnonnull 20, 3) := dk_199 0 20 (dk_at dksX1_fire_4 6 rfl rfl)
theorem dX1_fire_104 : decode cX1_fire 104 = .ok (.aload_n 0, 1) := dk_42 (dk_at dksX1_fire_4 9 rfl rfl)
theorem dX1_fire_105 : decode cX1_fire 105 = .ok (.getfield 176, 3) := dk_180 0 176 (dk_at dksX1_fire_4 10 rfl rfl)
theorem dX1_fire_108 : decode cX1_fire 108 = .ok (.iload 5, 2) := dk_21 5 (dk_at dksX1_fire_4 13 rfl rfl)
theorem dX1_fire_110 : decode cX1_fire 110 = .ok (.bipush 21, 2) := dk_16 21 (dk_at dksX1_fire_4 15 rfl rfl)
theorem dX1_fire_112 : decode cX1_fire 112 = .ok (.irem, 1) := dk_112 (dk_at dksX1_fire_4 17 rfl rfl)
theorem dX1_fire_113 : decode cX1_fire 113 = .ok (.new 166, 3) := dk_187 0 166 (dk_at dksX1_fire_4 18 rfl rfl)
theorem dX1_fire_116 : decode cX1_fire 116 = .ok (.dup, 1) := dk_89 (dk_at dksX1_fire_4 21 rfl rfl)
theorem dX1_fire_117 : decode cX1_fire 117 = .ok (.invokespecial 168, 3) := dk_183 0 168 (dk_at dksX1_fire_5 0 rfl rfl)
theorem dX1_fire_120 : decode cX1_fire 120 = .ok (.aastore, 1) := dk_83 (dk_at dksX1_fire_5 3 rfl rfl)
theorem dX1_fire_121 : decode cX1_fire 121 = .ok (.aload_n 0, 1) := dk_42 (dk_at dksX1_fire_5 4 rfl rfl)
theorem dX1_fire_122 : decode cX1_fire 122 = .ok (.getfield 176, 3) := dk_180 0 176 (dk_at dksX1_fire_5 5 rfl rfl)
theorem dX1_fire_125 : decode cX1_fire 125 = .ok (.iload 5, 2) := dk_21 5 (dk_at dksX1_fire_5 8 rfl rfl)
theorem dX1_fire_127 : decode cX1_fire 127 = .ok (.bipush 21, 2) := dk_16 21 (dk_at dksX1_fire_5 10 rfl rfl)
theorem dX1_fire_129 : decode cX1_fire 129 = .ok (.irem, 1) := dk_112 (dk_at dksX1_fire_5 12 rfl rfl)
theorem dX1_fire_130 : decode cX1_fire 130 = .ok (.aaload, 1) := dk_50 (dk_at dksX1_fire_5 13 rfl rfl)
theorem dX1_fire_131 : decode cX1_fire 131 = .ok (.aload_n 0, 1) := dk_42 (dk_at dksX1_fire_5 14 rfl rfl)
theorem dX1_fire_132 : decode cX1_fire 132 = .ok (.getfield 169, 3) := dk_180 0 169 (dk_at dksX1_fire_5 15 rfl rfl)
theorem dX1_fire_135 : decode cX1_fire 135 = .ok (.invokevirtual 450, 3) := dk_182 1 194 (dk_at dksX1_fire_5 18 rfl rfl)
theorem dX1_fire_138 : decode cX1_fire 138 = .ok (.aload_n 0, 1) := dk_42 (dk_at dksX1_fire_5 21 rfl rfl)
theorem dX1_fire_139 : decode cX1_fire 139 = .ok (.getfield 169, 3) := dk_180 0 169 (dk_at dksX1_fire_6 0 rfl rfl)
theorem dX1_fire_142 : decode cX1_fire 142 = .ok (.aload_n 0, 1) := dk_42 (dk_at dksX1_fire_6 3 rfl rfl)
theorem dX1_fire_143 : decode cX1_fire 143 = .ok (.getfield 176, 3) := dk_180 0 176 (dk_at dksX1_fire_6 4 rfl rfl)
theorem dX1_fire_146 : decode cX1_fire 146 = .ok (.iconst 0, 1) := dk_3 (dk_at dksX1_fire_6 7 rfl rfl)
theorem dX1_fire_147 : decode cX1_fire 147 = .ok (.iload 5, 2) := dk_21 5 (dk_at dksX1_fire_6 8 rfl rfl)
theorem dX1_fire_149 : decode cX1_fire 149 = .ok (.iload 4, 2) := dk_21 4 (dk_at dksX1_fire_6 10 rfl rfl)
theorem dX1_fire_151 : decode cX1_fire 151 = .ok (.isub, 1) := dk_100 (dk_at dksX1_fire_6 12 rfl rfl)
theorem dX1_fire_152 : decode cX1_fire 152 = .ok (.invokestatic 430, 3) := dk_184 1 174 (dk_at dksX1_fire_6 13 rfl rfl)
theorem dX1_fire_155 : decode cX1_fire 155 = .ok (.bipush 21, 2) := dk_16 21 (dk_at dksX1_fire_6 16 rfl rfl)
theorem dX1_fire_157 : decode cX1_fire 157 = .ok (.irem, 1) := dk_112 (dk_at dksX1_fire_6 18 rfl rfl)
theorem dX1_fire_158 : decode cX1_fire 158 = .ok (.aaload, 1) := dk_50 (dk_at dksX1_fire_6 19 rfl rfl)
theorem dX1_fire_159 : decode cX1_fire 159 = .ok (.iload_n 3, 1) := dk_29 (dk_at dksX1_fire_6 20 rfl rfl)
theorem dX1_fire_160 : decode cX1_fire 160 = .ok (.invokevirtual 454, 3) := dk_182 1 198 (dk_at dksX1_fire_6 21 rfl rfl)
theorem dX1_fire_163 : decode cX1_fire 163 = .ok (.iload_n 2, 1) := dk_28 (dk_at dksX1_fire_7 0 rfl rfl)
theorem dX1_fire_164 : decode cX1_fire 164 = .ok (.invokevirtual 457, 3) := dk_182 1 201 (dk_at dksX1_fire_7 1 rfl rfl)
theorem dX1_fire_167 : decode cX1_fire 167 = .ok (.aload_n 0, 1) := dk_42 (dk_at dksX1_fire_7 4 rfl rfl)
theorem dX1_fire_168 : decode cX1_fire 168 = .ok (.getfield 447, 3) := dk_180 1 191 (dk_at dksX1_fire_7 5 rfl rfl)
theorem dX1_fire_171 : decode cX1_fire 171 = .ok (.iconst (-1), 1) := dk_2 (dk_at dksX1_fire_7 8 rfl rfl)
theorem dX1_fire_172 : decode cX1_fire 172 = .ok (.if_icmp .ne 21, 3) := dk_160 0 21 (dk_at dksX1_fire_7 9 rfl rfl)
theorem dX1_fire_175 : decode cX1_fire 175 = .ok (.aload_n 0, 1) := dk_42 (dk_at dksX1_fire_7 12 rfl rfl)
theorem dX1_fire_176 : decode cX1_fire 176 = .ok (.getfield 169, 3) := dk_180 0 169 (dk_at dksX1_fire_7 13 rfl rfl)
theorem dX1_fire_179 : decode cX1_fire 179 = .ok (.invokevirtual 445, 3) := dk_182 1 189 (dk_at dksX1_fire_7 16 rfl rfl)
theorem dX1_fire_182 : decode cX1_fire 182 = .ok (.ifCond .ne 11, 3) := dk_154 0 11 (dk_at dksX1_fire_7 19 rfl rfl)
theorem dX1_fire_185 : decode cX1_fire 185 = .ok (.aload_n 0, 1) := dk_42 (dk_at dksX1_fire_7 22 rfl rfl)
theorem dX1_fire_186 : decode cX1_fire 186 = .ok (.iload 5, 2) := dk_21 5 (dk_at dksX1_fire_8 0 rfl rfl)
theorem dX1_fire_188 : decode cX1_fire 188 = .ok (.iconst 1, 1) := dk_4 (dk_at dksX1_fire_8 2 rfl rfl)
theorem dX1_fire_189 : decode cX1_fire 189 = .ok (.iadd, 1) := dk_96 (dk_at dksX1_fire_8 3 rfl rfl)
theorem dX1_fire_190 : decode cX1_fire 190 = .ok (.putfield 447, 3) := dk_181 1 191 (dk_at dksX1_fire_8 4 rfl rfl)
theorem dX1_fire_193 : decode cX1_fire 193 = .ok (.iinc 5 1, 3) := dk_132 5 1 (dk_at dksX1_fire_8 7 rfl rfl)
theorem dX1_fire_196 : decode cX1_fire 196 = .ok (.goto (-111), 3) := dk_167 255 145 (dk_at dksX1_fire_8 10 rfl rfl)
theorem dX1_fire_199 : decode cX1_fire 199 = .ok (.aload_n 0, 1) := dk_42 (dk_at dksX1_fire_8 13 rfl rfl)
theorem dX1_fire_200 : decode cX1_fire 200 = .ok (.getfield 169, 3) := dk_180 0 169 (dk_at dksX1_fire_8 14 rfl rfl)
theorem dX1_fire_203 : decode cX1_fire 203 = .ok (.getfield 459, 3) := dk_180 1 203 (dk_at dksX1_fire_8 17 rfl rfl)
theorem dX1_fire_206 : decode cX1_fire 206 = .ok (.ireturn, 1) := dk_172 (dk_at dksX1_fire_8 20 rfl rfl)
abbrev cX1_areLitres : ByteArray := prog_1_method_41_code
def yX1_areLitres : MethodName := ⟨RX1, "areLitres", "(I)Z"⟩
def dkwX1_areLitres_0 : List UInt8 := [26, 3, 17, 3, 231, 184, 1, 15, 172]
abbrev dktX1_areLitres_0 : List UInt8 := dkwX1_areLitres_0 ++ []
theorem dksX1_areLitres_0 : cX1_areLitres.data.toList.drop 0 = dktX1_areLitres_0 := by decide +kernel
theorem dX1_areLitres_0 : decode cX1_areLitres 0 = .ok (.iload_n 0, 1) := dk_26 (dk_at dksX1_areLitres_0 0 rfl rfl)
theorem dX1_areLitres_1 : decode cX1_areLitres 1 = .ok (.iconst 0, 1) := dk_3 (dk_at dksX1_areLitres_0 1 rfl rfl)
theorem dX1_areLitres_2 : decode cX1_areLitres 2 = .ok (.sipush 999, 3) := dk_17 3 231 (dk_at dksX1_areLitres_0 2 rfl rfl)
theorem dX1_areLitres_5 : decode cX1_areLitres 5 = .ok (.invokestatic 271, 3) := dk_184 1 15 (dk_at dksX1_areLitres_0 5 rfl rfl)
theorem dX1_areLitres_8 : decode cX1_areLitres 8 = .ok (.ireturn, 1) := dk_172 (dk_at dksX1_areLitres_0 8 rfl rfl)
abbrev cX1_fireAt : ByteArray := prog_1_method_43_code
def yX1_fireAt : MethodName := ⟨RX1, "fireAt", "(III)I"⟩
def dkwX1_fireAt_4 : List UInt8 := [167, 0, 4, 2, 172]
abbrev dktX1_fireAt_4 : List UInt8 := dkwX1_fireAt_4 ++ []
def dkwX1_fireAt_3 : List UInt8 := [167, 0, 26, 3, 167, 0, 22, 29, 5, 160, 0, 16, 42, 180, 0, 169, 180, 1, 208, 21, 4, 46]
abbrev dktX1_fireAt_3 : List UInt8 := dkwX1_fireAt_3 ++ dktX1_fireAt_4
def dkwX1_fireAt_2 : List UInt8 := [167, 0, 48, 29, 4, 160, 0, 24, 42, 180, 0, 169, 180, 1, 207, 21, 4, 51, 153, 0, 7, 4]
abbrev dktX1_fireAt_2 : List UInt8 := dkwX1_fireAt_2 ++ dktX1_fireAt_3
def dkwX1_fireAt_1 : List UInt8 := [16, 8, 28, 104, 27, 96, 54, 4, 29, 154, 0, 16, 42, 180, 0, 169, 180, 1, 206, 21, 4, 46]
abbrev dktX1_fireAt_1 : List UInt8 := dkwX1_fireAt_1 ++ dktX1_fireAt_2
def dkwX1_fireAt_0 : List UInt8 := [42, 180, 1, 186, 153, 0, 18, 42, 180, 0, 169, 180, 1, 205, 27, 28, 182, 1, 42, 154, 0, 5, 2, 172]
abbrev dktX1_fireAt_0 : List UInt8 := dkwX1_fireAt_0 ++ dktX1_fireAt_1
theorem dksX1_fireAt_0 : cX1_fireAt.data.toList.drop 0 = dktX1_fireAt_0 := by decide +kernel
theorem dksX1_fireAt_1 : cX1_fireAt.data.toList.drop 24 = dktX1_fireAt_1 := dk_seg dksX1_fireAt_0 24 rfl rfl
theorem dksX1_fireAt_2 : cX1_fireAt.data.toList.drop 46 = dktX1_fireAt_2 := dk_seg dksX1_fireAt_1 22 rfl rfl
theorem dksX1_fireAt_3 : cX1_fireAt.data.toList.drop 68 = dktX1_fireAt_3 := dk_seg dksX1_fireAt_2 22 rfl rfl
theorem dksX1_fireAt_4 : cX1_fireAt.data.toList.drop 90 = dktX1_fireAt_4 := dk_seg dksX1_fireAt_3 22 rfl rfl
theorem dX1_fireAt_0 : decode cX1_fireAt 0 = .ok (.aload_n 0, 1) := dk_42 (dk_at dksX1_fireAt_0 0 rfl rfl)
theorem dX1_fireAt_1 : decode cX1_fireAt 1 = .ok (.getfield 442, 3) := dk_180 1 186 (dk_at dksX1_fireAt_0 1 rfl rfl)
theorem dX1_fireAt_4 : decode cX1_fireAt 4 = .ok (.ifCond .eq 18, 3) := dk_153 0 18 (dk_at dksX1_fireAt_0 4 rfl rfl)
theorem dX1_fireAt_7 : decode cX1_fireAt 7 = .ok (.aload_n 0, 1) := dk_42 (dk_at dksX1_fireAt_0 7 rfl rfl)
theorem dX1_fireAt_8 : decode cX1_fireAt 8 = .ok (.getfield 169, 3) := dk_180 0 169 (dk_at dksX1_fireAt_0 8 rfl rfl)
theorem dX1_fireAt_11 : decode cX1_fireAt 11 = .ok (.getfield 461, 3) := dk_180 1 205 (dk_at dksX1_fireAt_0 11 rfl rfl)
theorem dX1_fireAt_14 : decode cX1_fireAt 14 = .ok (.iload_n 1, 1) := dk_27 (dk_at dksX1_fireAt_0 14 rfl rfl)
theorem dX1_fireAt_15 : decode cX1_fireAt 15 = .ok (.iload_n 2, 1) := dk_28 (dk_at dksX1_fireAt_0 15 rfl rfl)
theorem dX1_fireAt_16 : decode cX1_fireAt 16 = .ok (.invokevirtual 298, 3) := dk_182 1 42 (dk_at dksX1_fireAt_0 16 rfl rfl)
theorem dX1_fireAt_19 : decode cX1_fireAt 19 = .ok (.ifCond .ne 5, 3) := dk_154 0 5 (dk_at dksX1_fireAt_0 19 rfl rfl)
theorem dX1_fireAt_22 : decode cX1_fireAt 22 = .ok (.iconst (-1), 1) := dk_2 (dk_at dksX1_fireAt_0 22 rfl rfl)
theorem dX1_fireAt_23 : decode cX1_fireAt 23 = .ok (.ireturn, 1) := dk_172 (dk_at dksX1_fireAt_0 23 rfl rfl)
theorem dX1_fireAt_24 : decode cX1_fireAt 24 = .ok (.bipush 8, 2) := dk_16 8 (dk_at dksX1_fireAt_1 0 rfl rfl)
theorem dX1_fireAt_26 : decode cX1_fireAt 26 = .ok (.iload_n 2, 1) := dk_28 (dk_at dksX1_fireAt_1 2 rfl rfl)
theorem dX1_fireAt_27 : decode cX1_fireAt 27 = .ok (.imul, 1) := dk_104 (dk_at dksX1_fireAt_1 3 rfl rfl)
theorem dX1_fireAt_28 : decode cX1_fireAt 28 = .ok (.iload_n 1, 1) := dk_27 (dk_at dksX1_fireAt_1 4 rfl rfl)
theorem dX1_fireAt_29 : decode cX1_fireAt 29 = .ok (.iadd, 1) := dk_96 (dk_at dksX1_fireAt_1 5 rfl rfl)
theorem dX1_fireAt_30 : decode cX1_fireAt 30 = .ok (.istore 4, 2) := dk_54 4 (dk_at dksX1_fireAt_1 6 rfl rfl)
theorem dX1_fireAt_32 : decode cX1_fireAt 32 = .ok (.iload_n 3, 1) := dk_29 (dk_at dksX1_fireAt_1 8 rfl rfl)
theorem dX1_fireAt_33 : decode cX1_fireAt 33 = .ok (.ifCond .ne 16, 3) := dk_154 0 16 (dk_at dksX1_fireAt_1 9 rfl rfl)
theorem dX1_fireAt_36 : decode cX1_fireAt 36 = .ok (.aload_n 0, 1) := dk_42 (dk_at dksX1_fireAt_1 12 rfl rfl)
theorem dX1_fireAt_37 : decode cX1_fireAt 37 = .ok (.getfield 169, 3) := dk_180 0 169 (dk_at dksX1_fireAt_1 13 rfl rfl)
theorem dX1_fireAt_40 : decode cX1_fireAt 40 = .ok (.getfield 462, 3) := dk_180 1 206 (dk_at dksX1_fireAt_1 16 rfl rfl)
theorem dX1_fireAt_43 : decode cX1_fireAt 43 = .ok (.iload 4, 2) := dk_21 4 (dk_at dksX1_fireAt_1 19 rfl rfl)
theorem dX1_fireAt_45 : decode cX1_fireAt 45 = .ok (.iaload, 1) := dk_46 (dk_at dksX1_fireAt_1 21 rfl rfl)
theorem dX1_fireAt_46 : decode cX1_fireAt 46 = .ok (.goto 48, 3) := dk_167 0 48 (dk_at dksX1_fireAt_2 0 rfl rfl)
theorem dX1_fireAt_49 : decode cX1_fireAt 49 = .ok (.iload_n 3, 1) := dk_29 (dk_at dksX1_fireAt_2 3 rfl rfl)
theorem dX1_fireAt_50 : decode cX1_fireAt 50 = .ok (.iconst 1, 1) := dk_4 (dk_at dksX1_fireAt_2 4 rfl rfl)
theorem dX1_fireAt_51 : decode cX1_fireAt 51 = .ok (.if_icmp .ne 24, 3) := dk_160 0 24 (dk_at dksX1_fireAt_2 5 rfl rfl)
theorem dX1_fireAt_54 : decode cX1_fireAt 54 = .ok (.aload_n 0, 1) := dk_42 (dk_at dksX1_fireAt_2 8 rfl rfl)
theorem dX1_fireAt_55 : decode cX1_fireAt 55 = .ok (.getfield 169, 3) := dk_180 0 169 (dk_at dksX1_fireAt_2 9 rfl rfl)
theorem dX1_fireAt_58 : decode cX1_fireAt 58 = .ok (.getfield 463, 3) := dk_180 1 207 (dk_at dksX1_fireAt_2 12 rfl rfl)
theorem dX1_fireAt_61 : decode cX1_fireAt 61 = .ok (.iload 4, 2) := dk_21 4 (dk_at dksX1_fireAt_2 15 rfl rfl)
theorem dX1_fireAt_63 : decode cX1_fireAt 63 = .ok (.baload, 1) := dk_51 (dk_at dksX1_fireAt_2 17 rfl rfl)
theorem dX1_fireAt_64 : decode cX1_fireAt 64 = .ok (.ifCond .eq 7, 3) := dk_153 0 7 (dk_at dksX1_fireAt_2 18 rfl rfl)
theorem dX1_fireAt_67 : decode cX1_fireAt 67 = .ok (.iconst 1, 1) := dk_4 (dk_at dksX1_fireAt_2 21 rfl rfl)
theorem dX1_fireAt_68 : decode cX1_fireAt 68 = .ok (.goto 26, 3) := dk_167 0 26 (dk_at dksX1_fireAt_3 0 rfl rfl)
theorem dX1_fireAt_71 : decode cX1_fireAt 71 = .ok (.iconst 0, 1) := dk_3 (dk_at dksX1_fireAt_3 3 rfl rfl)
theorem dX1_fireAt_72 : decode cX1_fireAt 72 = .ok (.goto 22, 3) := dk_167 0 22 (dk_at dksX1_fireAt_3 4 rfl rfl)
theorem dX1_fireAt_75 : decode cX1_fireAt 75 = .ok (.iload_n 3, 1) := dk_29 (dk_at dksX1_fireAt_3 7 rfl rfl)
theorem dX1_fireAt_76 : decode cX1_fireAt 76 = .ok (.iconst 2, 1) := dk_5 (dk_at dksX1_fireAt_3 8 rfl rfl)
theorem dX1_fireAt_77 : decode cX1_fireAt 77 = .ok (.if_icmp .ne 16, 3) := dk_160 0 16 (dk_at dksX1_fireAt_3 9 rfl rfl)
theorem dX1_fireAt_80 : decode cX1_fireAt 80 = .ok (.aload_n 0, 1) := dk_42 (dk_at dksX1_fireAt_3 12 rfl rfl)
theorem dX1_fireAt_81 : decode cX1_fireAt 81 = .ok (.getfield 169, 3) := dk_180 0 169 (dk_at dksX1_fireAt_3 13 rfl rfl)
theorem dX1_fireAt_84 : decode cX1_fireAt 84 = .ok (.getfield 464, 3) := dk_180 1 208 (dk_at dksX1_fireAt_3 16 rfl rfl)
theorem dX1_fireAt_87 : decode cX1_fireAt 87 = .ok (.iload 4, 2) := dk_21 4 (dk_at dksX1_fireAt_3 19 rfl rfl)
theorem dX1_fireAt_89 : decode cX1_fireAt 89 = .ok (.iaload, 1) := dk_46 (dk_at dksX1_fireAt_3 21 rfl rfl)
theorem dX1_fireAt_90 : decode cX1_fireAt 90 = .ok (.goto 4, 3) := dk_167 0 4 (dk_at dksX1_fireAt_4 0 rfl rfl)
theorem dX1_fireAt_93 : decode cX1_fireAt 93 = .ok (.iconst (-1), 1) := dk_2 (dk_at dksX1_fireAt_4 3 rfl rfl)
theorem dX1_fireAt_94 : decode cX1_fireAt 94 = .ok (.ireturn, 1) := dk_172 (dk_at dksX1_fireAt_4 4 rfl rfl)
abbrev cX1_out : ByteArray := prog_1_method_44_code
def yX1_out : MethodName := ⟨RX1, "out", "()I"⟩
def dkwX1_out_0 : List UInt8 := [42, 180, 1, 186, 153, 0, 10, 42, 180, 1, 191, 167, 0, 4, 2, 172]
abbrev dktX1_out_0 : List UInt8 := dkwX1_out_0 ++ []
theorem dksX1_out_0 : cX1_out.data.toList.drop 0 = dktX1_out_0 := by decide +kernel
theorem dX1_out_0 : decode cX1_out 0 = .ok (.aload_n 0, 1) := dk_42 (dk_at dksX1_out_0 0 rfl rfl)
theorem dX1_out_1 : decode cX1_out 1 = .ok (.getfield 442, 3) := dk_180 1 186 (dk_at dksX1_out_0 1 rfl rfl)
theorem dX1_out_4 : decode cX1_out 4 = .ok (.ifCond .eq 10, 3) := dk_153 0 10 (dk_at dksX1_out_0 4 rfl rfl)
theorem dX1_out_7 : decode cX1_out 7 = .ok (.aload_n 0, 1) := dk_42 (dk_at dksX1_out_0 7 rfl rfl)
theorem dX1_out_8 : decode cX1_out 8 = .ok (.getfield 447, 3) := dk_180 1 191 (dk_at dksX1_out_0 8 rfl rfl)
theorem dX1_out_11 : decode cX1_out 11 = .ok (.goto 4, 3) := dk_167 0 4 (dk_at dksX1_out_0 11 rfl rfl)
theorem dX1_out_14 : decode cX1_out 14 = .ok (.iconst (-1), 1) := dk_2 (dk_at dksX1_out_0 14 rfl rfl)
theorem dX1_out_15 : decode cX1_out 15 = .ok (.ireturn, 1) := dk_172 (dk_at dksX1_out_0 15 rfl rfl)
abbrev cX1_aims : ByteArray := prog_1_method_45_code
def yX1_aims : MethodName := ⟨RX1, "aims", "(II)I"⟩
def dkwX1_aims_2 : List UInt8 := [42, 19, 1, 112, 181, 1, 213, 42, 3, 27, 28, 182, 1, 216, 42, 27, 181, 1, 219, 42, 180, 1, 213, 172]
abbrev dktX1_aims_2 : List UInt8 := dkwX1_aims_2 ++ []
def dkwX1_aims_1 : List UInt8 := [180, 1, 211, 154, 0, 5, 2, 172, 42, 180, 0, 180, 3, 50, 42, 180, 0, 96, 180, 0, 241, 182, 1, 183]
abbrev dktX1_aims_1 : List UInt8 := dkwX1_aims_1 ++ dktX1_aims_2
def dkwX1_aims_0 : List UInt8 := [27, 4, 6, 184, 1, 15, 153, 0, 23, 28, 184, 1, 177, 153, 0, 16, 42, 180, 0, 96, 180, 0, 241]
abbrev dktX1_aims_0 : List UInt8 := dkwX1_aims_0 ++ dktX1_aims_1
theorem dksX1_aims_0 : cX1_aims.data.toList.drop 0 = dktX1_aims_0 := by decide +kernel
theorem dksX1_aims_1 : cX1_aims.data.toList.drop 23 = dktX1_aims_1 := dk_seg dksX1_aims_0 23 rfl rfl
theorem dksX1_aims_2 : cX1_aims.data.toList.drop 47 = dktX1_aims_2 := dk_seg dksX1_aims_1 24 rfl rfl
theorem dX1_aims_0 : decode cX1_aims 0 = .ok (.iload_n 1, 1) := dk_27 (dk_at dksX1_aims_0 0 rfl rfl)
theorem dX1_aims_1 : decode cX1_aims 1 = .ok (.iconst 1, 1) := dk_4 (dk_at dksX1_aims_0 1 rfl rfl)
theorem dX1_aims_2 : decode cX1_aims 2 = .ok (.iconst 3, 1) := dk_6 (dk_at dksX1_aims_0 2 rfl rfl)
theorem dX1_aims_3 : decode cX1_aims 3 = .ok (.invokestatic 271, 3) := dk_184 1 15 (dk_at dksX1_aims_0 3 rfl rfl)
theorem dX1_aims_6 : decode cX1_aims 6 = .ok (.ifCond .eq 23, 3) := dk_153 0 23 (dk_at dksX1_aims_0 6 rfl rfl)
theorem dX1_aims_9 : decode cX1_aims 9 = .ok (.iload_n 2, 1) := dk_28 (dk_at dksX1_aims_0 9 rfl rfl)
theorem dX1_aims_10 : decode cX1_aims 10 = .ok (.invokestatic 433, 3) := dk_184 1 177 (dk_at dksX1_aims_0 10 rfl rfl)
theorem dX1_aims_13 : decode cX1_aims 13 = .ok (.ifCond .eq 16, 3) := dk_153 0 16 (dk_at dksX1_aims_0 13 rfl rfl)
theorem dX1_aims_16 : decode cX1_aims 16 = .ok (.aload_n 0, 1) := dk_42 (dk_at dksX1_aims_0 16 rfl rfl)
theorem dX1_aims_17 : decode cX1_aims 17 = .ok (.getfield 96, 3) := dk_180 0 96 (dk_at dksX1_aims_0 17 rfl rfl)
theorem dX1_aims_20 : decode cX1_aims 20 = .ok (.getfield 241, 3) := dk_180 0 241 (dk_at dksX1_aims_0 20 rfl rfl)
theorem dX1_aims_23 : decode cX1_aims 23 = .ok (.getfield 467, 3) := dk_180 1 211 (dk_at dksX1_aims_1 0 rfl rfl)
theorem dX1_aims_26 : decode cX1_aims 26 = .ok (.ifCond .ne 5, 3) := dk_154 0 5 (dk_at dksX1_aims_1 3 rfl rfl)
theorem dX1_aims_29 : decode cX1_aims 29 = .ok (.iconst (-1), 1) := dk_2 (dk_at dksX1_aims_1 6 rfl rfl)
theorem dX1_aims_30 : decode cX1_aims 30 = .ok (.ireturn, 1) := dk_172 (dk_at dksX1_aims_1 7 rfl rfl)
theorem dX1_aims_31 : decode cX1_aims 31 = .ok (.aload_n 0, 1) := dk_42 (dk_at dksX1_aims_1 8 rfl rfl)
theorem dX1_aims_32 : decode cX1_aims 32 = .ok (.getfield 180, 3) := dk_180 0 180 (dk_at dksX1_aims_1 9 rfl rfl)
theorem dX1_aims_35 : decode cX1_aims 35 = .ok (.iconst 0, 1) := dk_3 (dk_at dksX1_aims_1 12 rfl rfl)
theorem dX1_aims_36 : decode cX1_aims 36 = .ok (.aaload, 1) := dk_50 (dk_at dksX1_aims_1 13 rfl rfl)
theorem dX1_aims_37 : decode cX1_aims 37 = .ok (.aload_n 0, 1) := dk_42 (dk_at dksX1_aims_1 14 rfl rfl)
theorem dX1_aims_38 : decode cX1_aims 38 = .ok (.getfield 96, 3) := dk_180 0 96 (dk_at dksX1_aims_1 15 rfl rfl)
theorem dX1_aims_41 : decode cX1_aims 41 = .ok (.getfield 241, 3) := dk_180 0 241 (dk_at dksX1_aims_1 18 rfl rfl)
theorem dX1_aims_44 : decode cX1_aims 44 = .ok (.invokevirtual 439, 3) := dk_182 1 183 (dk_at dksX1_aims_1 21 rfl rfl)
theorem dX1_aims_47 : decode cX1_aims 47 = .ok (.aload_n 0, 1) := dk_42 (dk_at dksX1_aims_2 0 rfl rfl)
theorem dX1_aims_48 : decode cX1_aims 48 = .ok (.ldc_w 368, 3) := dk_19 1 112 (dk_at dksX1_aims_2 1 rfl rfl)
theorem dX1_aims_51 : decode cX1_aims 51 = .ok (.putfield 469, 3) := dk_181 1 213 (dk_at dksX1_aims_2 4 rfl rfl)
theorem dX1_aims_54 : decode cX1_aims 54 = .ok (.aload_n 0, 1) := dk_42 (dk_at dksX1_aims_2 7 rfl rfl)
theorem dX1_aims_55 : decode cX1_aims 55 = .ok (.iconst 0, 1) := dk_3 (dk_at dksX1_aims_2 8 rfl rfl)
theorem dX1_aims_56 : decode cX1_aims 56 = .ok (.iload_n 1, 1) := dk_27 (dk_at dksX1_aims_2 9 rfl rfl)
theorem dX1_aims_57 : decode cX1_aims 57 = .ok (.iload_n 2, 1) := dk_28 (dk_at dksX1_aims_2 10 rfl rfl)
theorem dX1_aims_58 : decode cX1_aims 58 = .ok (.invokevirtual 472, 3) := dk_182 1 216 (dk_at dksX1_aims_2 11 rfl rfl)
theorem dX1_aims_61 : decode cX1_aims 61 = .ok (.aload_n 0, 1) := dk_42 (dk_at dksX1_aims_2 14 rfl rfl)
theorem dX1_aims_62 : decode cX1_aims 62 = .ok (.iload_n 1, 1) := dk_27 (dk_at dksX1_aims_2 15 rfl rfl)
theorem dX1_aims_63 : decode cX1_aims 63 = .ok (.putfield 475, 3) := dk_181 1 219 (dk_at dksX1_aims_2 16 rfl rfl)
theorem dX1_aims_66 : decode cX1_aims 66 = .ok (.aload_n 0, 1) := dk_42 (dk_at dksX1_aims_2 19 rfl rfl)
theorem dX1_aims_67 : decode cX1_aims 67 = .ok (.getfield 469, 3) := dk_180 1 213 (dk_at dksX1_aims_2 20 rfl rfl)
theorem dX1_aims_70 : decode cX1_aims 70 = .ok (.ireturn, 1) := dk_172 (dk_at dksX1_aims_2 23 rfl rfl)
abbrev cX1_tries : ByteArray := prog_1_method_46_code
def yX1_tries : MethodName := ⟨RX1, "tries", "(III)V"⟩
def dkwX1_tries_7 : List UInt8 := [182, 1, 222, 177]
abbrev dktX1_tries_7 : List UInt8 := dkwX1_tries_7 ++ []
def dkwX1_tries_6 : List UInt8 := [104, 96, 21, 5, 16, 8, 112, 96, 182, 1, 222, 132, 5, 1, 167, 255, 192, 42, 27, 28, 29, 2, 3]
abbrev dktX1_tries_6 : List UInt8 := dkwX1_tries_6 ++ dktX1_tries_7
def dkwX1_tries_5 : List UInt8 := [154, 0, 6, 167, 0, 32, 132, 4, 1, 42, 27, 28, 29, 21, 5, 16, 100, 16, 10, 21, 5, 16, 8, 108]
abbrev dktX1_tries_5 : List UInt8 := dkwX1_tries_5 ++ dktX1_tries_6
def dkwX1_tries_4 : List UInt8 := [162, 0, 63, 21, 4, 16, 8, 162, 0, 56, 42, 180, 0, 180, 27, 50, 180, 1, 207, 21, 5, 51]
abbrev dktX1_tries_4 : List UInt8 := dkwX1_tries_4 ++ dktX1_tries_5
def dkwX1_tries_3 : List UInt8 := [180, 0, 183, 3, 42, 180, 0, 186, 3, 27, 184, 1, 103, 177, 3, 54, 4, 3, 54, 5, 21, 5, 16, 64]
abbrev dktX1_tries_3 : List UInt8 := dkwX1_tries_3 ++ dktX1_tries_4
def dkwX1_tries_2 : List UInt8 := [180, 1, 203, 42, 180, 1, 213, 161, 0, 4, 177, 42, 42, 180, 0, 173, 180, 1, 203, 181, 1, 213, 42]
abbrev dktX1_tries_2 : List UInt8 := dkwX1_tries_2 ++ dktX1_tries_3
def dkwX1_tries_1 : List UInt8 := [16, 20, 162, 0, 18, 42, 180, 0, 173, 2, 3, 182, 1, 201, 132, 4, 1, 167, 255, 237, 42, 180, 0, 173]
abbrev dktX1_tries_1 : List UInt8 := dkwX1_tries_1 ++ dktX1_tries_2
def dkwX1_tries_0 : List UInt8 := [27, 28, 160, 0, 82, 42, 180, 0, 173, 42, 180, 0, 180, 27, 50, 182, 1, 194, 27, 54, 4, 21, 4]
abbrev dktX1_tries_0 : List UInt8 := dkwX1_tries_0 ++ dktX1_tries_1
theorem dksX1_tries_0 : cX1_tries.data.toList.drop 0 = dktX1_tries_0 := by decide +kernel
theorem dksX1_tries_1 : cX1_tries.data.toList.drop 23 = dktX1_tries_1 := dk_seg dksX1_tries_0 23 rfl rfl
theorem dksX1_tries_2 : cX1_tries.data.toList.drop 47 = dktX1_tries_2 := dk_seg dksX1_tries_1 24 rfl rfl
theorem dksX1_tries_3 : cX1_tries.data.toList.drop 70 = dktX1_tries_3 := dk_seg dksX1_tries_2 23 rfl rfl
theorem dksX1_tries_4 : cX1_tries.data.toList.drop 94 = dktX1_tries_4 := dk_seg dksX1_tries_3 24 rfl rfl
theorem dksX1_tries_5 : cX1_tries.data.toList.drop 116 = dktX1_tries_5 := dk_seg dksX1_tries_4 22 rfl rfl
theorem dksX1_tries_6 : cX1_tries.data.toList.drop 140 = dktX1_tries_6 := dk_seg dksX1_tries_5 24 rfl rfl
theorem dksX1_tries_7 : cX1_tries.data.toList.drop 163 = dktX1_tries_7 := dk_seg dksX1_tries_6 23 rfl rfl
theorem dX1_tries_0 : decode cX1_tries 0 = .ok (.iload_n 1, 1) := dk_27 (dk_at dksX1_tries_0 0 rfl rfl)
theorem dX1_tries_1 : decode cX1_tries 1 = .ok (.iload_n 2, 1) := dk_28 (dk_at dksX1_tries_0 1 rfl rfl)
theorem dX1_tries_2 : decode cX1_tries 2 = .ok (.if_icmp .ne 82, 3) := dk_160 0 82 (dk_at dksX1_tries_0 2 rfl rfl)
theorem dX1_tries_5 : decode cX1_tries 5 = .ok (.aload_n 0, 1) := dk_42 (dk_at dksX1_tries_0 5 rfl rfl)
theorem dX1_tries_6 : decode cX1_tries 6 = .ok (.getfield 173, 3) := dk_180 0 173 (dk_at dksX1_tries_0 6 rfl rfl)
theorem dX1_tries_9 : decode cX1_tries 9 = .ok (.aload_n 0, 1) := dk_42 (dk_at dksX1_tries_0 9 rfl rfl)
theorem dX1_tries_10 : decode cX1_tries 10 = .ok (.getfield 180, 3) := dk_180 0 180 (dk_at dksX1_tries_0 10 rfl rfl)
theorem dX1_tries_13 : decode cX1_tries 13 = .ok (.iload_n 1, 1) := dk_27 (dk_at dksX1_tries_0 13 rfl rfl)
theorem dX1_tries_14 : decode cX1_tries 14 = .ok (.aaload, 1) := dk_50 (dk_at dksX1_tries_0 14 rfl rfl)
theorem dX1_tries_15 : decode cX1_tries 15 = .ok (.invokevirtual 450, 3) := dk_182 1 194 (dk_at dksX1_tries_0 15 rfl rfl)
theorem dX1_tries_18 : decode cX1_tries 18 = .ok (.iload_n 1, 1) := dk_27 (dk_at dksX1_tries_0 18 rfl rfl)
theorem dX1_tries_19 : decode cX1_tries 19 = .ok (.istore 4, 2) := dk_54 4 (dk_at dksX1_tries_0 19 rfl rfl)
theorem dX1_tries_21 : decode cX1_tries 21 = .ok (.iload 4, 2) := dk_21 4 (dk_at dksX1_tries_0 21 rfl rfl)
theorem dX1_tries_23 : decode cX1_tries 23 = .ok (.bipush 20, 2) := dk_16 20 (dk_at dksX1_tries_1 0 rfl rfl)
theorem dX1_tries_25 : decode cX1_tries 25 = .ok (.if_icmp .ge 18, 3) := dk_162 0 18 (dk_at dksX1_tries_1 2 rfl rfl)
theorem dX1_tries_28 : decode cX1_tries 28 = .ok (.aload_n 0, 1) := dk_42 (dk_at dksX1_tries_1 5 rfl rfl)
theorem dX1_tries_29 : decode cX1_tries 29 = .ok (.getfield 173, 3) := dk_180 0 173 (dk_at dksX1_tries_1 6 rfl rfl)
theorem dX1_tries_32 : decode cX1_tries 32 = .ok (.iconst (-1), 1) := dk_2 (dk_at dksX1_tries_1 9 rfl rfl)
theorem dX1_tries_33 : decode cX1_tries 33 = .ok (.iconst 0, 1) := dk_3 (dk_at dksX1_tries_1 10 rfl rfl)
theorem dX1_tries_34 : decode cX1_tries 34 = .ok (.invokevirtual 457, 3) := dk_182 1 201 (dk_at dksX1_tries_1 11 rfl rfl)
theorem dX1_tries_37 : decode cX1_tries 37 = .ok (.iinc 4 1, 3) := dk_132 4 1 (dk_at dksX1_tries_1 14 rfl rfl)
theorem dX1_tries_40 : decode cX1_tries 40 = .ok (.goto (-19), 3) := dk_167 255 237 (dk_at dksX1_tries_1 17 rfl rfl)
theorem dX1_tries_43 : decode cX1_tries 43 = .ok (.aload_n 0, 1) := dk_42 (dk_at dksX1_tries_1 20 rfl rfl)
theorem dX1_tries_44 : decode cX1_tries 44 = .ok (.getfield 173, 3) := dk_180 0 173 (dk_at dksX1_tries_1 21 rfl rfl)
theorem dX1_tries_47 : decode cX1_tries 47 = .ok (.getfield 459, 3) := dk_180 1 203 (dk_at dksX1_tries_2 0 rfl rfl)
theorem dX1_tries_50 : decode cX1_tries 50 = .ok (.aload_n 0, 1) := dk_42 (dk_at dksX1_tries_2 3 rfl rfl)
theorem dX1_tries_51 : decode cX1_tries 51 = .ok (.getfield 469, 3) := dk_180 1 213 (dk_at dksX1_tries_2 4 rfl rfl)
theorem dX1_tries_54 : decode cX1_tries 54 = .ok (.if_icmp .lt 4, 3) := dk_161 0 4 (dk_at dksX1_tries_2 7 rfl rfl)
theorem dX1_tries_57 : decode cX1_tries 57 = .ok (.return_, 1) := dk_177 (dk_at dksX1_tries_2 10 rfl rfl)
theorem dX1_tries_58 : decode cX1_tries 58 = .ok (.aload_n 0, 1) := dk_42 (dk_at dksX1_tries_2 11 rfl rfl)
theorem dX1_tries_59 : decode cX1_tries 59 = .ok (.aload_n 0, 1) := dk_42 (dk_at dksX1_tries_2 12 rfl rfl)
theorem dX1_tries_60 : decode cX1_tries 60 = .ok (.getfield 173, 3) := dk_180 0 173 (dk_at dksX1_tries_2 13 rfl rfl)
theorem dX1_tries_63 : decode cX1_tries 63 = .ok (.getfield 459, 3) := dk_180 1 203 (dk_at dksX1_tries_2 16 rfl rfl)
theorem dX1_tries_66 : decode cX1_tries 66 = .ok (.putfield 469, 3) := dk_181 1 213 (dk_at dksX1_tries_2 19 rfl rfl)
theorem dX1_tries_69 : decode cX1_tries 69 = .ok (.aload_n 0, 1) := dk_42 (dk_at dksX1_tries_2 22 rfl rfl)
theorem dX1_tries_70 : decode cX1_tries 70 = .ok (.getfield 183, 3) := dk_180 0 183 (dk_at dksX1_tries_3 0 rfl rfl)
theorem dX1_tries_73 : decode cX1_tries 73 = .ok (.iconst 0, 1) := dk_3 (dk_at dksX1_tries_3 3 rfl rfl)
theorem dX1_tries_74 : decode cX1_tries 74 = .ok (.aload_n 0, 1) := dk_42 (dk_at dksX1_tries_3 4 rfl rfl)
theorem dX1_tries_75 : decode cX1_tries 75 = .ok (.getfield 186, 3) := dk_180 0 186 (dk_at dksX1_tries_3 5 rfl rfl)
theorem dX1_tries_78 : decode cX1_tries 78 = .ok (.iconst 0, 1) := dk_3 (dk_at dksX1_tries_3 8 rfl rfl)
theorem dX1_tries_79 : decode cX1_tries 79 = .ok (.iload_n 1, 1) := dk_27 (dk_at dksX1_tries_3 9 rfl rfl)
theorem dX1_tries_80 : decode cX1_tries 80 = .ok (.invokestatic 359, 3) := dk_184 1 103 (dk_at dksX1_tries_3 10 rfl rfl)
theorem dX1_tries_83 : decode cX1_tries 83 = .ok (.return_, 1) := dk_177 (dk_at dksX1_tries_3 13 rfl rfl)
theorem dX1_tries_84 : decode cX1_tries 84 = .ok (.iconst 0, 1) := dk_3 (dk_at dksX1_tries_3 14 rfl rfl)
theorem dX1_tries_85 : decode cX1_tries 85 = .ok (.istore 4, 2) := dk_54 4 (dk_at dksX1_tries_3 15 rfl rfl)
theorem dX1_tries_87 : decode cX1_tries 87 = .ok (.iconst 0, 1) := dk_3 (dk_at dksX1_tries_3 17 rfl rfl)
theorem dX1_tries_88 : decode cX1_tries 88 = .ok (.istore 5, 2) := dk_54 5 (dk_at dksX1_tries_3 18 rfl rfl)
theorem dX1_tries_90 : decode cX1_tries 90 = .ok (.iload 5, 2) := dk_21 5 (dk_at dksX1_tries_3 20 rfl rfl)
theorem dX1_tries_92 : decode cX1_tries 92 = .ok (.bipush 64, 2) := dk_16 64 (dk_at dksX1_tries_3 22 rfl rfl)
theorem dX1_tries_94 : decode cX1_tries 94 = .ok (.if_icmp .ge 63, 3) := dk_162 0 63 (dk_at dksX1_tries_4 0 rfl rfl)
theorem dX1_tries_97 : decode cX1_tries 97 = .ok (.iload 4, 2) := dk_21 4 (dk_at dksX1_tries_4 3 rfl rfl)
theorem dX1_tries_99 : decode cX1_tries 99 = .ok (.bipush 8, 2) := dk_16 8 (dk_at dksX1_tries_4 5 rfl rfl)
theorem dX1_tries_101 : decode cX1_tries 101 = .ok (.if_icmp .ge 56, 3) := dk_162 0 56 (dk_at dksX1_tries_4 7 rfl rfl)
theorem dX1_tries_104 : decode cX1_tries 104 = .ok (.aload_n 0, 1) := dk_42 (dk_at dksX1_tries_4 10 rfl rfl)
theorem dX1_tries_105 : decode cX1_tries 105 = .ok (.getfield 180, 3) := dk_180 0 180 (dk_at dksX1_tries_4 11 rfl rfl)
theorem dX1_tries_108 : decode cX1_tries 108 = .ok (.iload_n 1, 1) := dk_27 (dk_at dksX1_tries_4 14 rfl rfl)
theorem dX1_tries_109 : decode cX1_tries 109 = .ok (.aaload, 1) := dk_50 (dk_at dksX1_tries_4 15 rfl rfl)
theorem dX1_tries_110 : decode cX1_tries 110 = .ok (.getfield 463, 3) := dk_180 1 207 (dk_at dksX1_tries_4 16 rfl rfl)
theorem dX1_tries_113 : decode cX1_tries 113 = .ok (.iload 5, 2) := dk_21 5 (dk_at dksX1_tries_4 19 rfl rfl)
theorem dX1_tries_115 : decode cX1_tries 115 = .ok (.baload, 1) := dk_51 (dk_at dksX1_tries_4 21 rfl rfl)
theorem dX1_tries_116 : decode cX1_tries 116 = .ok (.ifCond .ne 6, 3) := dk_154 0 6 (dk_at dksX1_tries_5 0 rfl rfl)
theorem dX1_tries_119 : decode cX1_tries 119 = .ok (.goto 32, 3) := dk_167 0 32 (dk_at dksX1_tries_5 3 rfl rfl)
theorem dX1_tries_122 : decode cX1_tries 122 = .ok (.iinc 4 1, 3) := dk_132 4 1 (dk_at dksX1_tries_5 6 rfl rfl)
theorem dX1_tries_125 : decode cX1_tries 125 = .ok (.aload_n 0, 1) := dk_42 (dk_at dksX1_tries_5 9 rfl rfl)
theorem dX1_tries_126 : decode cX1_tries 126 = .ok (.iload_n 1, 1) := dk_27 (dk_at dksX1_tries_5 10 rfl rfl)
theorem dX1_tries_127 : decode cX1_tries 127 = .ok (.iload_n 2, 1) := dk_28 (dk_at dksX1_tries_5 11 rfl rfl)
theorem dX1_tries_128 : decode cX1_tries 128 = .ok (.iload_n 3, 1) := dk_29 (dk_at dksX1_tries_5 12 rfl rfl)
theorem dX1_tries_129 : decode cX1_tries 129 = .ok (.iload 5, 2) := dk_21 5 (dk_at dksX1_tries_5 13 rfl rfl)
theorem dX1_tries_131 : decode cX1_tries 131 = .ok (.bipush 100, 2) := dk_16 100 (dk_at dksX1_tries_5 15 rfl rfl)
theorem dX1_tries_133 : decode cX1_tries 133 = .ok (.bipush 10, 2) := dk_16 10 (dk_at dksX1_tries_5 17 rfl rfl)
theorem dX1_tries_135 : decode cX1_tries 135 = .ok (.iload 5, 2) := dk_21 5 (dk_at dksX1_tries_5 19 rfl rfl)
theorem dX1_tries_137 : decode cX1_tries 137 = .ok (.bipush 8, 2) := dk_16 8 (dk_at dksX1_tries_5 21 rfl rfl)
theorem dX1_tries_139 : decode cX1_tries 139 = .ok (.idiv, 1) := dk_108 (dk_at dksX1_tries_5 23 rfl rfl)
theorem dX1_tries_140 : decode cX1_tries 140 = .ok (.imul, 1) := dk_104 (dk_at dksX1_tries_6 0 rfl rfl)
theorem dX1_tries_141 : decode cX1_tries 141 = .ok (.iadd, 1) := dk_96 (dk_at dksX1_tries_6 1 rfl rfl)
theorem dX1_tries_142 : decode cX1_tries 142 = .ok (.iload 5, 2) := dk_21 5 (dk_at dksX1_tries_6 2 rfl rfl)
theorem dX1_tries_144 : decode cX1_tries 144 = .ok (.bipush 8, 2) := dk_16 8 (dk_at dksX1_tries_6 4 rfl rfl)
theorem dX1_tries_146 : decode cX1_tries 146 = .ok (.irem, 1) := dk_112 (dk_at dksX1_tries_6 6 rfl rfl)
theorem dX1_tries_147 : decode cX1_tries 147 = .ok (.iadd, 1) := dk_96 (dk_at dksX1_tries_6 7 rfl rfl)
theorem dX1_tries_148 : decode cX1_tries 148 = .ok (.invokevirtual 478, 3) := dk_182 1 222 (dk_at dksX1_tries_6 8 rfl rfl)
theorem dX1_tries_151 : decode cX1_tries 151 = .ok (.iinc 5 1, 3) := dk_132 5 1 (dk_at dksX1_tries_6 11 rfl rfl)
theorem dX1_tries_154 : decode cX1_tries 154 = .ok (.goto (-64), 3) := dk_167 255 192 (dk_at dksX1_tries_6 14 rfl rfl)
theorem dX1_tries_157 : decode cX1_tries 157 = .ok (.aload_n 0, 1) := dk_42 (dk_at dksX1_tries_6 17 rfl rfl)
theorem dX1_tries_158 : decode cX1_tries 158 = .ok (.iload_n 1, 1) := dk_27 (dk_at dksX1_tries_6 18 rfl rfl)
theorem dX1_tries_159 : decode cX1_tries 159 = .ok (.iload_n 2, 1) := dk_28 (dk_at dksX1_tries_6 19 rfl rfl)
theorem dX1_tries_160 : decode cX1_tries 160 = .ok (.iload_n 3, 1) := dk_29 (dk_at dksX1_tries_6 20 rfl rfl)
theorem dX1_tries_161 : decode cX1_tries 161 = .ok (.iconst (-1), 1) := dk_2 (dk_at dksX1_tries_6 21 rfl rfl)
theorem dX1_tries_162 : decode cX1_tries 162 = .ok (.iconst 0, 1) := dk_3 (dk_at dksX1_tries_6 22 rfl rfl)
theorem dX1_tries_163 : decode cX1_tries 163 = .ok (.invokevirtual 478, 3) := dk_182 1 222 (dk_at dksX1_tries_7 0 rfl rfl)
theorem dX1_tries_166 : decode cX1_tries 166 = .ok (.return_, 1) := dk_177 (dk_at dksX1_tries_7 3 rfl rfl)
abbrev cX1_next : ByteArray := prog_1_method_47_code
def yX1_next : MethodName := ⟨RX1, "next", "(IIIII)V"⟩
def dkwX1_next_2 : List UInt8 := [177]
abbrev dktX1_next_2 : List UInt8 := dkwX1_next_2 ++ []
def dkwX1_next_1 : List UInt8 := [50, 21, 4, 29, 182, 1, 201, 42, 180, 0, 183, 27, 21, 5, 79, 42, 27, 4, 96, 28, 29, 182, 1, 216]
abbrev dktX1_next_1 : List UInt8 := dkwX1_next_1 ++ dktX1_next_2
def dkwX1_next_0 : List UInt8 := [42, 180, 0, 180, 27, 4, 96, 50, 42, 180, 0, 180, 27, 50, 182, 1, 194, 42, 180, 0, 180, 27, 4, 96]
abbrev dktX1_next_0 : List UInt8 := dkwX1_next_0 ++ dktX1_next_1
theorem dksX1_next_0 : cX1_next.data.toList.drop 0 = dktX1_next_0 := by decide +kernel
theorem dksX1_next_1 : cX1_next.data.toList.drop 24 = dktX1_next_1 := dk_seg dksX1_next_0 24 rfl rfl
theorem dksX1_next_2 : cX1_next.data.toList.drop 48 = dktX1_next_2 := dk_seg dksX1_next_1 24 rfl rfl
theorem dX1_next_0 : decode cX1_next 0 = .ok (.aload_n 0, 1) := dk_42 (dk_at dksX1_next_0 0 rfl rfl)
theorem dX1_next_1 : decode cX1_next 1 = .ok (.getfield 180, 3) := dk_180 0 180 (dk_at dksX1_next_0 1 rfl rfl)
theorem dX1_next_4 : decode cX1_next 4 = .ok (.iload_n 1, 1) := dk_27 (dk_at dksX1_next_0 4 rfl rfl)
theorem dX1_next_5 : decode cX1_next 5 = .ok (.iconst 1, 1) := dk_4 (dk_at dksX1_next_0 5 rfl rfl)
theorem dX1_next_6 : decode cX1_next 6 = .ok (.iadd, 1) := dk_96 (dk_at dksX1_next_0 6 rfl rfl)
theorem dX1_next_7 : decode cX1_next 7 = .ok (.aaload, 1) := dk_50 (dk_at dksX1_next_0 7 rfl rfl)
theorem dX1_next_8 : decode cX1_next 8 = .ok (.aload_n 0, 1) := dk_42 (dk_at dksX1_next_0 8 rfl rfl)
theorem dX1_next_9 : decode cX1_next 9 = .ok (.getfield 180, 3) := dk_180 0 180 (dk_at dksX1_next_0 9 rfl rfl)
theorem dX1_next_12 : decode cX1_next 12 = .ok (.iload_n 1, 1) := dk_27 (dk_at dksX1_next_0 12 rfl rfl)
theorem dX1_next_13 : decode cX1_next 13 = .ok (.aaload, 1) := dk_50 (dk_at dksX1_next_0 13 rfl rfl)
theorem dX1_next_14 : decode cX1_next 14 = .ok (.invokevirtual 450, 3) := dk_182 1 194 (dk_at dksX1_next_0 14 rfl rfl)
theorem dX1_next_17 : decode cX1_next 17 = .ok (.aload_n 0, 1) := dk_42 (dk_at dksX1_next_0 17 rfl rfl)
theorem dX1_next_18 : decode cX1_next 18 = .ok (.getfield 180, 3) := dk_180 0 180 (dk_at dksX1_next_0 18 rfl rfl)
theorem dX1_next_21 : decode cX1_next 21 = .ok (.iload_n 1, 1) := dk_27 (dk_at dksX1_next_0 21 rfl rfl)
theorem dX1_next_22 : decode cX1_next 22 = .ok (.iconst 1, 1) := dk_4 (dk_at dksX1_next_0 22 rfl rfl)
theorem dX1_next_23 : decode cX1_next 23 = .ok (.iadd, 1) := dk_96 (dk_at dksX1_next_0 23 rfl rfl)
theorem dX1_next_24 : decode cX1_next 24 = .ok (.aaload, 1) := dk_50 (dk_at dksX1_next_1 0 rfl rfl)
theorem dX1_next_25 : decode cX1_next 25 = .ok (.iload 4, 2) := dk_21 4 (dk_at dksX1_next_1 1 rfl rfl)
theorem dX1_next_27 : decode cX1_next 27 = .ok (.iload_n 3, 1) := dk_29 (dk_at dksX1_next_1 3 rfl rfl)
theorem dX1_next_28 : decode cX1_next 28 = .ok (.invokevirtual 457, 3) := dk_182 1 201 (dk_at dksX1_next_1 4 rfl rfl)
theorem dX1_next_31 : decode cX1_next 31 = .ok (.aload_n 0, 1) := dk_42 (dk_at dksX1_next_1 7 rfl rfl)
theorem dX1_next_32 : decode cX1_next 32 = .ok (.getfield 183, 3) := dk_180 0 183 (dk_at dksX1_next_1 8 rfl rfl)
theorem dX1_next_35 : decode cX1_next 35 = .ok (.iload_n 1, 1) := dk_27 (dk_at dksX1_next_1 11 rfl rfl)
theorem dX1_next_36 : decode cX1_next 36 = .ok (.iload 5, 2) := dk_21 5 (dk_at dksX1_next_1 12 rfl rfl)
theorem dX1_next_38 : decode cX1_next 38 = .ok (.iastore, 1) := dk_79 (dk_at dksX1_next_1 14 rfl rfl)
theorem dX1_next_39 : decode cX1_next 39 = .ok (.aload_n 0, 1) := dk_42 (dk_at dksX1_next_1 15 rfl rfl)
theorem dX1_next_40 : decode cX1_next 40 = .ok (.iload_n 1, 1) := dk_27 (dk_at dksX1_next_1 16 rfl rfl)
theorem dX1_next_41 : decode cX1_next 41 = .ok (.iconst 1, 1) := dk_4 (dk_at dksX1_next_1 17 rfl rfl)
theorem dX1_next_42 : decode cX1_next 42 = .ok (.iadd, 1) := dk_96 (dk_at dksX1_next_1 18 rfl rfl)
theorem dX1_next_43 : decode cX1_next 43 = .ok (.iload_n 2, 1) := dk_28 (dk_at dksX1_next_1 19 rfl rfl)
theorem dX1_next_44 : decode cX1_next 44 = .ok (.iload_n 3, 1) := dk_29 (dk_at dksX1_next_1 20 rfl rfl)
theorem dX1_next_45 : decode cX1_next 45 = .ok (.invokevirtual 472, 3) := dk_182 1 216 (dk_at dksX1_next_1 21 rfl rfl)
theorem dX1_next_48 : decode cX1_next 48 = .ok (.return_, 1) := dk_177 (dk_at dksX1_next_2 0 rfl rfl)
abbrev cX1_aimAt : ByteArray := prog_1_method_48_code
def yX1_aimAt : MethodName := ⟨RX1, "aimAt", "(I)I"⟩
def dkwX1_aimAt_1 : List UInt8 := [172]
abbrev dktX1_aimAt_1 : List UInt8 := dkwX1_aimAt_1 ++ []
def dkwX1_aimAt_0 : List UInt8 := [27, 3, 42, 180, 1, 219, 4, 100, 184, 1, 15, 153, 0, 12, 42, 180, 0, 186, 27, 46, 167, 0, 4, 2]
abbrev dktX1_aimAt_0 : List UInt8 := dkwX1_aimAt_0 ++ dktX1_aimAt_1
theorem dksX1_aimAt_0 : cX1_aimAt.data.toList.drop 0 = dktX1_aimAt_0 := by decide +kernel
theorem dksX1_aimAt_1 : cX1_aimAt.data.toList.drop 24 = dktX1_aimAt_1 := dk_seg dksX1_aimAt_0 24 rfl rfl
theorem dX1_aimAt_0 : decode cX1_aimAt 0 = .ok (.iload_n 1, 1) := dk_27 (dk_at dksX1_aimAt_0 0 rfl rfl)
theorem dX1_aimAt_1 : decode cX1_aimAt 1 = .ok (.iconst 0, 1) := dk_3 (dk_at dksX1_aimAt_0 1 rfl rfl)
theorem dX1_aimAt_2 : decode cX1_aimAt 2 = .ok (.aload_n 0, 1) := dk_42 (dk_at dksX1_aimAt_0 2 rfl rfl)
theorem dX1_aimAt_3 : decode cX1_aimAt 3 = .ok (.getfield 475, 3) := dk_180 1 219 (dk_at dksX1_aimAt_0 3 rfl rfl)
theorem dX1_aimAt_6 : decode cX1_aimAt 6 = .ok (.iconst 1, 1) := dk_4 (dk_at dksX1_aimAt_0 6 rfl rfl)
theorem dX1_aimAt_7 : decode cX1_aimAt 7 = .ok (.isub, 1) := dk_100 (dk_at dksX1_aimAt_0 7 rfl rfl)
theorem dX1_aimAt_8 : decode cX1_aimAt 8 = .ok (.invokestatic 271, 3) := dk_184 1 15 (dk_at dksX1_aimAt_0 8 rfl rfl)
theorem dX1_aimAt_11 : decode cX1_aimAt 11 = .ok (.ifCond .eq 12, 3) := dk_153 0 12 (dk_at dksX1_aimAt_0 11 rfl rfl)
theorem dX1_aimAt_14 : decode cX1_aimAt 14 = .ok (.aload_n 0, 1) := dk_42 (dk_at dksX1_aimAt_0 14 rfl rfl)
theorem dX1_aimAt_15 : decode cX1_aimAt 15 = .ok (.getfield 186, 3) := dk_180 0 186 (dk_at dksX1_aimAt_0 15 rfl rfl)
theorem dX1_aimAt_18 : decode cX1_aimAt 18 = .ok (.iload_n 1, 1) := dk_27 (dk_at dksX1_aimAt_0 18 rfl rfl)
theorem dX1_aimAt_19 : decode cX1_aimAt 19 = .ok (.iaload, 1) := dk_46 (dk_at dksX1_aimAt_0 19 rfl rfl)
theorem dX1_aimAt_20 : decode cX1_aimAt 20 = .ok (.goto 4, 3) := dk_167 0 4 (dk_at dksX1_aimAt_0 20 rfl rfl)
theorem dX1_aimAt_23 : decode cX1_aimAt 23 = .ok (.iconst (-1), 1) := dk_2 (dk_at dksX1_aimAt_0 23 rfl rfl)
theorem dX1_aimAt_24 : decode cX1_aimAt 24 = .ok (.ireturn, 1) := dk_172 (dk_at dksX1_aimAt_1 0 rfl rfl)
abbrev cX1_give : ByteArray := prog_1_method_50_code
def yX1_give : MethodName := ⟨RX1, "give", "(I)I"⟩
def dkwX1_give_2 : List UInt8 := [161, 0, 6, 167, 0, 9, 21, 5, 62, 21, 4, 61, 132, 4, 1, 167, 255, 214, 28, 172]
abbrev dktX1_give_2 : List UInt8 := dkwX1_give_2 ++ []
def dkwX1_give_1 : List UInt8 := [180, 0, 96, 180, 0, 241, 180, 1, 231, 162, 0, 33, 42, 21, 4, 27, 182, 1, 228, 54, 5, 21, 5, 29]
abbrev dktX1_give_1 : List UInt8 := dkwX1_give_1 ++ dktX1_give_2
def dkwX1_give_0 : List UInt8 := [27, 184, 1, 177, 154, 0, 5, 2, 172, 2, 61, 42, 2, 27, 182, 1, 228, 62, 3, 54, 4, 21, 4, 42]
abbrev dktX1_give_0 : List UInt8 := dkwX1_give_0 ++ dktX1_give_1
theorem dksX1_give_0 : cX1_give.data.toList.drop 0 = dktX1_give_0 := by decide +kernel
theorem dksX1_give_1 : cX1_give.data.toList.drop 24 = dktX1_give_1 := dk_seg dksX1_give_0 24 rfl rfl
theorem dksX1_give_2 : cX1_give.data.toList.drop 48 = dktX1_give_2 := dk_seg dksX1_give_1 24 rfl rfl
theorem dX1_give_0 : decode cX1_give 0 = .ok (.iload_n 1, 1) := dk_27 (dk_at dksX1_give_0 0 rfl rfl)
theorem dX1_give_1 : decode cX1_give 1 = .ok (.invokestatic 433, 3) := dk_184 1 177 (dk_at dksX1_give_0 1 rfl rfl)
theorem dX1_give_4 : decode cX1_give 4 = .ok (.ifCond .ne 5, 3) := dk_154 0 5 (dk_at dksX1_give_0 4 rfl rfl)
theorem dX1_give_7 : decode cX1_give 7 = .ok (.iconst (-1), 1) := dk_2 (dk_at dksX1_give_0 7 rfl rfl)
theorem dX1_give_8 : decode cX1_give 8 = .ok (.ireturn, 1) := dk_172 (dk_at dksX1_give_0 8 rfl rfl)
theorem dX1_give_9 : decode cX1_give 9 = .ok (.iconst (-1), 1) := dk_2 (dk_at dksX1_give_0 9 rfl rfl)
theorem dX1_give_10 : decode cX1_give 10 = .ok (.istore_n 2, 1) := dk_61 (dk_at dksX1_give_0 10 rfl rfl)
theorem dX1_give_11 : decode cX1_give 11 = .ok (.aload_n 0, 1) := dk_42 (dk_at dksX1_give_0 11 rfl rfl)
theorem dX1_give_12 : decode cX1_give 12 = .ok (.iconst (-1), 1) := dk_2 (dk_at dksX1_give_0 12 rfl rfl)
theorem dX1_give_13 : decode cX1_give 13 = .ok (.iload_n 1, 1) := dk_27 (dk_at dksX1_give_0 13 rfl rfl)
theorem dX1_give_14 : decode cX1_give 14 = .ok (.invokevirtual 484, 3) := dk_182 1 228 (dk_at dksX1_give_0 14 rfl rfl)
theorem dX1_give_17 : decode cX1_give 17 = .ok (.istore_n 3, 1) := dk_62 (dk_at dksX1_give_0 17 rfl rfl)
theorem dX1_give_18 : decode cX1_give 18 = .ok (.iconst 0, 1) := dk_3 (dk_at dksX1_give_0 18 rfl rfl)
theorem dX1_give_19 : decode cX1_give 19 = .ok (.istore 4, 2) := dk_54 4 (dk_at dksX1_give_0 19 rfl rfl)
theorem dX1_give_21 : decode cX1_give 21 = .ok (.iload 4, 2) := dk_21 4 (dk_at dksX1_give_0 21 rfl rfl)
theorem dX1_give_23 : decode cX1_give 23 = .ok (.aload_n 0, 1) := dk_42 (dk_at dksX1_give_0 23 rfl rfl)
theorem dX1_give_24 : decode cX1_give 24 = .ok (.getfield 96, 3) := dk_180 0 96 (dk_at dksX1_give_1 0 rfl rfl)
theorem dX1_give_27 : decode cX1_give 27 = .ok (.getfield 241, 3) := dk_180 0 241 (dk_at dksX1_give_1 3 rfl rfl)
theorem dX1_give_30 : decode cX1_give 30 = .ok (.getfield 487, 3) := dk_180 1 231 (dk_at dksX1_give_1 6 rfl rfl)
theorem dX1_give_33 : decode cX1_give 33 = .ok (.if_icmp .ge 33, 3) := dk_162 0 33 (dk_at dksX1_give_1 9 rfl rfl)
theorem dX1_give_36 : decode cX1_give 36 = .ok (.aload_n 0, 1) := dk_42 (dk_at dksX1_give_1 12 rfl rfl)
theorem dX1_give_37 : decode cX1_give 37 = .ok (.iload 4, 2) := dk_21 4 (dk_at dksX1_give_1 13 rfl rfl)
theorem dX1_give_39 : decode cX1_give 39 = .ok (.iload_n 1, 1) := dk_27 (dk_at dksX1_give_1 15 rfl rfl)
theorem dX1_give_40 : decode cX1_give 40 = .ok (.invokevirtual 484, 3) := dk_182 1 228 (dk_at dksX1_give_1 16 rfl rfl)
theorem dX1_give_43 : decode cX1_give 43 = .ok (.istore 5, 2) := dk_54 5 (dk_at dksX1_give_1 19 rfl rfl)
theorem dX1_give_45 : decode cX1_give 45 = .ok (.iload 5, 2) := dk_21 5 (dk_at dksX1_give_1 21 rfl rfl)
theorem dX1_give_47 : decode cX1_give 47 = .ok (.iload_n 3, 1) := dk_29 (dk_at dksX1_give_1 23 rfl rfl)
theorem dX1_give_48 : decode cX1_give 48 = .ok (.if_icmp .lt 6, 3) := dk_161 0 6 (dk_at dksX1_give_2 0 rfl rfl)
theorem dX1_give_51 : decode cX1_give 51 = .ok (.goto 9, 3) := dk_167 0 9 (dk_at dksX1_give_2 3 rfl rfl)
theorem dX1_give_54 : decode cX1_give 54 = .ok (.iload 5, 2) := dk_21 5 (dk_at dksX1_give_2 6 rfl rfl)
theorem dX1_give_56 : decode cX1_give 56 = .ok (.istore_n 3, 1) := dk_62 (dk_at dksX1_give_2 8 rfl rfl)
theorem dX1_give_57 : decode cX1_give 57 = .ok (.iload 4, 2) := dk_21 4 (dk_at dksX1_give_2 9 rfl rfl)
theorem dX1_give_59 : decode cX1_give 59 = .ok (.istore_n 2, 1) := dk_61 (dk_at dksX1_give_2 11 rfl rfl)
theorem dX1_give_60 : decode cX1_give 60 = .ok (.iinc 4 1, 3) := dk_132 4 1 (dk_at dksX1_give_2 12 rfl rfl)
theorem dX1_give_63 : decode cX1_give 63 = .ok (.goto (-42), 3) := dk_167 255 214 (dk_at dksX1_give_2 15 rfl rfl)
theorem dX1_give_66 : decode cX1_give 66 = .ok (.iload_n 2, 1) := dk_28 (dk_at dksX1_give_2 18 rfl rfl)
theorem dX1_give_67 : decode cX1_give 67 = .ok (.ireturn, 1) := dk_172 (dk_at dksX1_give_2 19 rfl rfl)
abbrev cX1_lostBy : ByteArray := prog_1_method_49_code
def yX1_lostBy : MethodName := ⟨RX1, "lostBy", "(II)I"⟩
def dkwX1_lostBy_3 : List UInt8 := [180, 1, 203, 96, 172]
abbrev dktX1_lostBy_3 : List UInt8 := dkwX1_lostBy_3 ++ []
def dkwX1_lostBy_2 : List UInt8 := [180, 0, 173, 4, 182, 1, 198, 28, 182, 1, 201, 132, 4, 1, 167, 255, 230, 29, 42, 180, 0, 173]
abbrev dktX1_lostBy_2 : List UInt8 := dkwX1_lostBy_2 ++ dktX1_lostBy_3
def dkwX1_lostBy_1 : List UInt8 := [180, 0, 173, 27, 182, 1, 226, 62, 3, 54, 4, 21, 4, 16, 30, 162, 0, 25, 42, 180, 0, 173, 42]
abbrev dktX1_lostBy_1 : List UInt8 := dkwX1_lostBy_1 ++ dktX1_lostBy_2
def dkwX1_lostBy_0 : List UInt8 := [42, 180, 0, 173, 42, 180, 0, 96, 180, 0, 241, 182, 1, 183, 27, 2, 160, 0, 7, 3, 167, 0, 11, 42]
abbrev dktX1_lostBy_0 : List UInt8 := dkwX1_lostBy_0 ++ dktX1_lostBy_1
theorem dksX1_lostBy_0 : cX1_lostBy.data.toList.drop 0 = dktX1_lostBy_0 := by decide +kernel
theorem dksX1_lostBy_1 : cX1_lostBy.data.toList.drop 24 = dktX1_lostBy_1 := dk_seg dksX1_lostBy_0 24 rfl rfl
theorem dksX1_lostBy_2 : cX1_lostBy.data.toList.drop 47 = dktX1_lostBy_2 := dk_seg dksX1_lostBy_1 23 rfl rfl
theorem dksX1_lostBy_3 : cX1_lostBy.data.toList.drop 69 = dktX1_lostBy_3 := dk_seg dksX1_lostBy_2 22 rfl rfl
theorem dX1_lostBy_0 : decode cX1_lostBy 0 = .ok (.aload_n 0, 1) := dk_42 (dk_at dksX1_lostBy_0 0 rfl rfl)
theorem dX1_lostBy_1 : decode cX1_lostBy 1 = .ok (.getfield 173, 3) := dk_180 0 173 (dk_at dksX1_lostBy_0 1 rfl rfl)
theorem dX1_lostBy_4 : decode cX1_lostBy 4 = .ok (.aload_n 0, 1) := dk_42 (dk_at dksX1_lostBy_0 4 rfl rfl)
theorem dX1_lostBy_5 : decode cX1_lostBy 5 = .ok (.getfield 96, 3) := dk_180 0 96 (dk_at dksX1_lostBy_0 5 rfl rfl)
theorem dX1_lostBy_8 : decode cX1_lostBy 8 = .ok (.getfield 241, 3) := dk_180 0 241 (dk_at dksX1_lostBy_0 8 rfl rfl)
theorem dX1_lostBy_11 : decode cX1_lostBy 11 = .ok (.invokevirtual 439, 3) := dk_182 1 183 (dk_at dksX1_lostBy_0 11 rfl rfl)
theorem dX1_lostBy_14 : decode cX1_lostBy 14 = .ok (.iload_n 1, 1) := dk_27 (dk_at dksX1_lostBy_0 14 rfl rfl)
theorem dX1_lostBy_15 : decode cX1_lostBy 15 = .ok (.iconst (-1), 1) := dk_2 (dk_at dksX1_lostBy_0 15 rfl rfl)
theorem dX1_lostBy_16 : decode cX1_lostBy 16 = .ok (.if_icmp .ne 7, 3) := dk_160 0 7 (dk_at dksX1_lostBy_0 16 rfl rfl)
theorem dX1_lostBy_19 : decode cX1_lostBy 19 = .ok (.iconst 0, 1) := dk_3 (dk_at dksX1_lostBy_0 19 rfl rfl)
theorem dX1_lostBy_20 : decode cX1_lostBy 20 = .ok (.goto 11, 3) := dk_167 0 11 (dk_at dksX1_lostBy_0 20 rfl rfl)
theorem dX1_lostBy_23 : decode cX1_lostBy 23 = .ok (.aload_n 0, 1) := dk_42 (dk_at dksX1_lostBy_0 23 rfl rfl)
theorem dX1_lostBy_24 : decode cX1_lostBy 24 = .ok (.getfield 173, 3) := dk_180 0 173 (dk_at dksX1_lostBy_1 0 rfl rfl)
theorem dX1_lostBy_27 : decode cX1_lostBy 27 = .ok (.iload_n 1, 1) := dk_27 (dk_at dksX1_lostBy_1 3 rfl rfl)
theorem dX1_lostBy_28 : decode cX1_lostBy 28 = .ok (.invokevirtual 482, 3) := dk_182 1 226 (dk_at dksX1_lostBy_1 4 rfl rfl)
theorem dX1_lostBy_31 : decode cX1_lostBy 31 = .ok (.istore_n 3, 1) := dk_62 (dk_at dksX1_lostBy_1 7 rfl rfl)
theorem dX1_lostBy_32 : decode cX1_lostBy 32 = .ok (.iconst 0, 1) := dk_3 (dk_at dksX1_lostBy_1 8 rfl rfl)
theorem dX1_lostBy_33 : decode cX1_lostBy 33 = .ok (.istore 4, 2) := dk_54 4 (dk_at dksX1_lostBy_1 9 rfl rfl)
theorem dX1_lostBy_35 : decode cX1_lostBy 35 = .ok (.iload 4, 2) := dk_21 4 (dk_at dksX1_lostBy_1 11 rfl rfl)
theorem dX1_lostBy_37 : decode cX1_lostBy 37 = .ok (.bipush 30, 2) := dk_16 30 (dk_at dksX1_lostBy_1 13 rfl rfl)
theorem dX1_lostBy_39 : decode cX1_lostBy 39 = .ok (.if_icmp .ge 25, 3) := dk_162 0 25 (dk_at dksX1_lostBy_1 15 rfl rfl)
theorem dX1_lostBy_42 : decode cX1_lostBy 42 = .ok (.aload_n 0, 1) := dk_42 (dk_at dksX1_lostBy_1 18 rfl rfl)
theorem dX1_lostBy_43 : decode cX1_lostBy 43 = .ok (.getfield 173, 3) := dk_180 0 173 (dk_at dksX1_lostBy_1 19 rfl rfl)
theorem dX1_lostBy_46 : decode cX1_lostBy 46 = .ok (.aload_n 0, 1) := dk_42 (dk_at dksX1_lostBy_1 22 rfl rfl)
theorem dX1_lostBy_47 : decode cX1_lostBy 47 = .ok (.getfield 173, 3) := dk_180 0 173 (dk_at dksX1_lostBy_2 0 rfl rfl)
theorem dX1_lostBy_50 : decode cX1_lostBy 50 = .ok (.iconst 1, 1) := dk_4 (dk_at dksX1_lostBy_2 3 rfl rfl)
theorem dX1_lostBy_51 : decode cX1_lostBy 51 = .ok (.invokevirtual 454, 3) := dk_182 1 198 (dk_at dksX1_lostBy_2 4 rfl rfl)
theorem dX1_lostBy_54 : decode cX1_lostBy 54 = .ok (.iload_n 2, 1) := dk_28 (dk_at dksX1_lostBy_2 7 rfl rfl)
theorem dX1_lostBy_55 : decode cX1_lostBy 55 = .ok (.invokevirtual 457, 3) := dk_182 1 201 (dk_at dksX1_lostBy_2 8 rfl rfl)
theorem dX1_lostBy_58 : decode cX1_lostBy 58 = .ok (.iinc 4 1, 3) := dk_132 4 1 (dk_at dksX1_lostBy_2 11 rfl rfl)
theorem dX1_lostBy_61 : decode cX1_lostBy 61 = .ok (.goto (-26), 3) := dk_167 255 230 (dk_at dksX1_lostBy_2 14 rfl rfl)
theorem dX1_lostBy_64 : decode cX1_lostBy 64 = .ok (.iload_n 3, 1) := dk_29 (dk_at dksX1_lostBy_2 17 rfl rfl)
theorem dX1_lostBy_65 : decode cX1_lostBy 65 = .ok (.aload_n 0, 1) := dk_42 (dk_at dksX1_lostBy_2 18 rfl rfl)
theorem dX1_lostBy_66 : decode cX1_lostBy 66 = .ok (.getfield 173, 3) := dk_180 0 173 (dk_at dksX1_lostBy_2 19 rfl rfl)
theorem dX1_lostBy_69 : decode cX1_lostBy 69 = .ok (.getfield 459, 3) := dk_180 1 203 (dk_at dksX1_lostBy_3 0 rfl rfl)
theorem dX1_lostBy_72 : decode cX1_lostBy 72 = .ok (.iadd, 1) := dk_96 (dk_at dksX1_lostBy_3 3 rfl rfl)
theorem dX1_lostBy_73 : decode cX1_lostBy 73 = .ok (.ireturn, 1) := dk_172 (dk_at dksX1_lostBy_3 4 rfl rfl)
abbrev cX1_enough : ByteArray := prog_1_method_51_code
def yX1_enough : MethodName := ⟨RX1, "enough", "(II)I"⟩
def dkwX1_enough_4 : List UInt8 := [180, 0, 173, 182, 1, 189, 154, 0, 5, 29, 172, 132, 3, 1, 167, 255, 179, 2, 172]
abbrev dktX1_enough_4 : List UInt8 := dkwX1_enough_4 ++ []
def dkwX1_enough_3 : List UInt8 := [180, 0, 173, 42, 180, 0, 173, 27, 182, 1, 198, 29, 182, 1, 201, 132, 4, 1, 167, 255, 221, 42]
abbrev dktX1_enough_3 : List UInt8 := dkwX1_enough_3 ++ dktX1_enough_4
def dkwX1_enough_2 : List UInt8 := [182, 1, 183, 3, 54, 4, 21, 4, 28, 162, 0, 35, 42, 180, 0, 173, 182, 1, 189, 158, 0, 25, 42]
abbrev dktX1_enough_2 : List UInt8 := dkwX1_enough_2 ++ dktX1_enough_3
def dkwX1_enough_1 : List UInt8 := [16, 254, 172, 3, 62, 29, 17, 0, 200, 163, 0, 76, 42, 180, 0, 173, 42, 180, 0, 96, 180, 0, 241]
abbrev dktX1_enough_1 : List UInt8 := dkwX1_enough_1 ++ dktX1_enough_2
def dkwX1_enough_0 : List UInt8 := [42, 180, 0, 96, 180, 0, 241, 27, 182, 1, 180, 153, 0, 13, 28, 4, 16, 60, 184, 1, 15, 154, 0, 6]
abbrev dktX1_enough_0 : List UInt8 := dkwX1_enough_0 ++ dktX1_enough_1
theorem dksX1_enough_0 : cX1_enough.data.toList.drop 0 = dktX1_enough_0 := by decide +kernel
theorem dksX1_enough_1 : cX1_enough.data.toList.drop 24 = dktX1_enough_1 := dk_seg dksX1_enough_0 24 rfl rfl
theorem dksX1_enough_2 : cX1_enough.data.toList.drop 47 = dktX1_enough_2 := dk_seg dksX1_enough_1 23 rfl rfl
theorem dksX1_enough_3 : cX1_enough.data.toList.drop 70 = dktX1_enough_3 := dk_seg dksX1_enough_2 23 rfl rfl
theorem dksX1_enough_4 : cX1_enough.data.toList.drop 92 = dktX1_enough_4 := dk_seg dksX1_enough_3 22 rfl rfl
theorem dX1_enough_0 : decode cX1_enough 0 = .ok (.aload_n 0, 1) := dk_42 (dk_at dksX1_enough_0 0 rfl rfl)
theorem dX1_enough_1 : decode cX1_enough 1 = .ok (.getfield 96, 3) := dk_180 0 96 (dk_at dksX1_enough_0 1 rfl rfl)
theorem dX1_enough_4 : decode cX1_enough 4 = .ok (.getfield 241, 3) := dk_180 0 241 (dk_at dksX1_enough_0 4 rfl rfl)
theorem dX1_enough_7 : decode cX1_enough 7 = .ok (.iload_n 1, 1) := dk_27 (dk_at dksX1_enough_0 7 rfl rfl)
theorem dX1_enough_8 : decode cX1_enough 8 = .ok (.invokevirtual 436, 3) := dk_182 1 180 (dk_at dksX1_enough_0 8 rfl rfl)
theorem dX1_enough_11 : decode cX1_enough 11 = .ok (.ifCond .eq 13, 3) := dk_153 0 13 (dk_at dksX1_enough_0 11 rfl rfl)
theorem dX1_enough_14 : decode cX1_enough 14 = .ok (.iload_n 2, 1) := dk_28 (dk_at dksX1_enough_0 14 rfl rfl)
theorem dX1_enough_15 : decode cX1_enough 15 = .ok (.iconst 1, 1) := dk_4 (dk_at dksX1_enough_0 15 rfl rfl)
theorem dX1_enough_16 : decode cX1_enough 16 = .ok (.bipush 60, 2) := dk_16 60 (dk_at dksX1_enough_0 16 rfl rfl)
theorem dX1_enough_18 : decode cX1_enough 18 = .ok (.invokestatic 271, 3) := dk_184 1 15 (dk_at dksX1_enough_0 18 rfl rfl)
theorem dX1_enough_21 : decode cX1_enough 21 = .ok (.ifCond .ne 6, 3) := dk_154 0 6 (dk_at dksX1_enough_0 21 rfl rfl)
theorem dX1_enough_24 : decode cX1_enough 24 = .ok (.bipush (-2), 2) := dk_16 254 (dk_at dksX1_enough_1 0 rfl rfl)
theorem dX1_enough_26 : decode cX1_enough 26 = .ok (.ireturn, 1) := dk_172 (dk_at dksX1_enough_1 2 rfl rfl)
theorem dX1_enough_27 : decode cX1_enough 27 = .ok (.iconst 0, 1) := dk_3 (dk_at dksX1_enough_1 3 rfl rfl)
theorem dX1_enough_28 : decode cX1_enough 28 = .ok (.istore_n 3, 1) := dk_62 (dk_at dksX1_enough_1 4 rfl rfl)
theorem dX1_enough_29 : decode cX1_enough 29 = .ok (.iload_n 3, 1) := dk_29 (dk_at dksX1_enough_1 5 rfl rfl)
theorem dX1_enough_30 : decode cX1_enough 30 = .ok (.sipush 200, 3) := dk_17 0 200 (dk_at dksX1_enough_1 6 rfl rfl)
theorem dX1_enough_33 : decode cX1_enough 33 = .ok (.if_icmp .gt 76, 3) := dk_163 0 76 (dk_at dksX1_enough_1 9 rfl rfl)
theorem dX1_enough_36 : decode cX1_enough 36 = .ok (.aload_n 0, 1) := dk_42 (dk_at dksX1_enough_1 12 rfl rfl)
theorem dX1_enough_37 : decode cX1_enough 37 = .ok (.getfield 173, 3) := dk_180 0 173 (dk_at dksX1_enough_1 13 rfl rfl)
theorem dX1_enough_40 : decode cX1_enough 40 = .ok (.aload_n 0, 1) := dk_42 (dk_at dksX1_enough_1 16 rfl rfl)
theorem dX1_enough_41 : decode cX1_enough 41 = .ok (.getfield 96, 3) := dk_180 0 96 (dk_at dksX1_enough_1 17 rfl rfl)
theorem dX1_enough_44 : decode cX1_enough 44 = .ok (.getfield 241, 3) := dk_180 0 241 (dk_at dksX1_enough_1 20 rfl rfl)
theorem dX1_enough_47 : decode cX1_enough 47 = .ok (.invokevirtual 439, 3) := dk_182 1 183 (dk_at dksX1_enough_2 0 rfl rfl)
theorem dX1_enough_50 : decode cX1_enough 50 = .ok (.iconst 0, 1) := dk_3 (dk_at dksX1_enough_2 3 rfl rfl)
theorem dX1_enough_51 : decode cX1_enough 51 = .ok (.istore 4, 2) := dk_54 4 (dk_at dksX1_enough_2 4 rfl rfl)
theorem dX1_enough_53 : decode cX1_enough 53 = .ok (.iload 4, 2) := dk_21 4 (dk_at dksX1_enough_2 6 rfl rfl)
theorem dX1_enough_55 : decode cX1_enough 55 = .ok (.iload_n 2, 1) := dk_28 (dk_at dksX1_enough_2 8 rfl rfl)
theorem dX1_enough_56 : decode cX1_enough 56 = .ok (.if_icmp .ge 35, 3) := dk_162 0 35 (dk_at dksX1_enough_2 9 rfl rfl)
theorem dX1_enough_59 : decode cX1_enough 59 = .ok (.aload_n 0, 1) := dk_42 (dk_at dksX1_enough_2 12 rfl rfl)
theorem dX1_enough_60 : decode cX1_enough 60 = .ok (.getfield 173, 3) := dk_180 0 173 (dk_at dksX1_enough_2 13 rfl rfl)
theorem dX1_enough_63 : decode cX1_enough 63 = .ok (.invokevirtual 445, 3) := dk_182 1 189 (dk_at dksX1_enough_2 16 rfl rfl)
theorem dX1_enough_66 : decode cX1_enough 66 = .ok (.ifCond .le 25, 3) := dk_158 0 25 (dk_at dksX1_enough_2 19 rfl rfl)
theorem dX1_enough_69 : decode cX1_enough 69 = .ok (.aload_n 0, 1) := dk_42 (dk_at dksX1_enough_2 22 rfl rfl)
theorem dX1_enough_70 : decode cX1_enough 70 = .ok (.getfield 173, 3) := dk_180 0 173 (dk_at dksX1_enough_3 0 rfl rfl)
theorem dX1_enough_73 : decode cX1_enough 73 = .ok (.aload_n 0, 1) := dk_42 (dk_at dksX1_enough_3 3 rfl rfl)
theorem dX1_enough_74 : decode cX1_enough 74 = .ok (.getfield 173, 3) := dk_180 0 173 (dk_at dksX1_enough_3 4 rfl rfl)
theorem dX1_enough_77 : decode cX1_enough 77 = .ok (.iload_n 1, 1) := dk_27 (dk_at dksX1_enough_3 7 rfl rfl)
theorem dX1_enough_78 : decode cX1_enough 78 = .ok (.invokevirtual 454, 3) := dk_182 1 198 (dk_at dksX1_enough_3 8 rfl rfl)
theorem dX1_enough_81 : decode cX1_enough 81 = .ok (.iload_n 3, 1) := dk_29 (dk_at dksX1_enough_3 11 rfl rfl)
theorem dX1_enough_82 : decode cX1_enough 82 = .ok (.invokevirtual 457, 3) := dk_182 1 201 (dk_at dksX1_enough_3 12 rfl rfl)
theorem dX1_enough_85 : decode cX1_enough 85 = .ok (.iinc 4 1, 3) := dk_132 4 1 (dk_at dksX1_enough_3 15 rfl rfl)
theorem dX1_enough_88 : decode cX1_enough 88 = .ok (.goto (-35), 3) := dk_167 255 221 (dk_at dksX1_enough_3 18 rfl rfl)
theorem dX1_enough_91 : decode cX1_enough 91 = .ok (.aload_n 0, 1) := dk_42 (dk_at dksX1_enough_3 21 rfl rfl)
theorem dX1_enough_92 : decode cX1_enough 92 = .ok (.getfield 173, 3) := dk_180 0 173 (dk_at dksX1_enough_4 0 rfl rfl)
theorem dX1_enough_95 : decode cX1_enough 95 = .ok (.invokevirtual 445, 3) := dk_182 1 189 (dk_at dksX1_enough_4 3 rfl rfl)
theorem dX1_enough_98 : decode cX1_enough 98 = .ok (.ifCond .ne 5, 3) := dk_154 0 5 (dk_at dksX1_enough_4 6 rfl rfl)
theorem dX1_enough_101 : decode cX1_enough 101 = .ok (.iload_n 3, 1) := dk_29 (dk_at dksX1_enough_4 9 rfl rfl)
theorem dX1_enough_102 : decode cX1_enough 102 = .ok (.ireturn, 1) := dk_172 (dk_at dksX1_enough_4 10 rfl rfl)
theorem dX1_enough_103 : decode cX1_enough 103 = .ok (.iinc 3 1, 3) := dk_132 3 1 (dk_at dksX1_enough_4 11 rfl rfl)
theorem dX1_enough_106 : decode cX1_enough 106 = .ok (.goto (-77), 3) := dk_167 255 179 (dk_at dksX1_enough_4 14 rfl rfl)
theorem dX1_enough_109 : decode cX1_enough 109 = .ok (.iconst (-1), 1) := dk_2 (dk_at dksX1_enough_4 17 rfl rfl)
theorem dX1_enough_110 : decode cX1_enough 110 = .ok (.ireturn, 1) := dk_172 (dk_at dksX1_enough_4 18 rfl rfl)
abbrev cX1_night : ByteArray := prog_1_method_53_code
def yX1_night : MethodName := ⟨RX1, "night", "(II)I"⟩
def dkwX1_night_3 : List UInt8 := [180, 0, 200, 27, 46, 172]
abbrev dktX1_night_3 : List UInt8 := dkwX1_night_3 ++ []
def dkwX1_night_2 : List UInt8 := [180, 0, 195, 27, 46, 167, 0, 23, 28, 5, 160, 0, 12, 42, 180, 0, 197, 27, 46, 167, 0, 9, 42]
abbrev dktX1_night_2 : List UInt8 := dkwX1_night_2 ++ dktX1_night_3
def dkwX1_night_1 : List UInt8 := [182, 1, 255, 28, 154, 0, 12, 42, 180, 0, 192, 27, 46, 167, 0, 37, 28, 4, 160, 0, 12, 42]
abbrev dktX1_night_1 : List UInt8 := dkwX1_night_1 ++ dktX1_night_2
def dkwX1_night_0 : List UInt8 := [27, 3, 16, 59, 184, 1, 15, 153, 0, 12, 28, 3, 6, 184, 1, 15, 154, 0, 5, 2, 172, 42]
abbrev dktX1_night_0 : List UInt8 := dkwX1_night_0 ++ dktX1_night_1
theorem dksX1_night_0 : cX1_night.data.toList.drop 0 = dktX1_night_0 := by decide +kernel
theorem dksX1_night_1 : cX1_night.data.toList.drop 22 = dktX1_night_1 := dk_seg dksX1_night_0 22 rfl rfl
theorem dksX1_night_2 : cX1_night.data.toList.drop 44 = dktX1_night_2 := dk_seg dksX1_night_1 22 rfl rfl
theorem dksX1_night_3 : cX1_night.data.toList.drop 67 = dktX1_night_3 := dk_seg dksX1_night_2 23 rfl rfl
theorem dX1_night_0 : decode cX1_night 0 = .ok (.iload_n 1, 1) := dk_27 (dk_at dksX1_night_0 0 rfl rfl)
theorem dX1_night_1 : decode cX1_night 1 = .ok (.iconst 0, 1) := dk_3 (dk_at dksX1_night_0 1 rfl rfl)
theorem dX1_night_2 : decode cX1_night 2 = .ok (.bipush 59, 2) := dk_16 59 (dk_at dksX1_night_0 2 rfl rfl)
theorem dX1_night_4 : decode cX1_night 4 = .ok (.invokestatic 271, 3) := dk_184 1 15 (dk_at dksX1_night_0 4 rfl rfl)
theorem dX1_night_7 : decode cX1_night 7 = .ok (.ifCond .eq 12, 3) := dk_153 0 12 (dk_at dksX1_night_0 7 rfl rfl)
theorem dX1_night_10 : decode cX1_night 10 = .ok (.iload_n 2, 1) := dk_28 (dk_at dksX1_night_0 10 rfl rfl)
theorem dX1_night_11 : decode cX1_night 11 = .ok (.iconst 0, 1) := dk_3 (dk_at dksX1_night_0 11 rfl rfl)
theorem dX1_night_12 : decode cX1_night 12 = .ok (.iconst 3, 1) := dk_6 (dk_at dksX1_night_0 12 rfl rfl)
theorem dX1_night_13 : decode cX1_night 13 = .ok (.invokestatic 271, 3) := dk_184 1 15 (dk_at dksX1_night_0 13 rfl rfl)
theorem dX1_night_16 : decode cX1_night 16 = .ok (.ifCond .ne 5, 3) := dk_154 0 5 (dk_at dksX1_night_0 16 rfl rfl)
theorem dX1_night_19 : decode cX1_night 19 = .ok (.iconst (-1), 1) := dk_2 (dk_at dksX1_night_0 19 rfl rfl)
theorem dX1_night_20 : decode cX1_night 20 = .ok (.ireturn, 1) := dk_172 (dk_at dksX1_night_0 20 rfl rfl)
theorem dX1_night_21 : decode cX1_night 21 = .ok (.aload_n 0, 1) := dk_42 (dk_at dksX1_night_0 21 rfl rfl)
theorem dX1_night_22 : decode cX1_night 22 = .ok (.invokevirtual 511, 3) := dk_182 1 255 (dk_at dksX1_night_1 0 rfl rfl)
theorem dX1_night_25 : decode cX1_night 25 = .ok (.iload_n 2, 1) := dk_28 (dk_at dksX1_night_1 3 rfl rfl)
theorem dX1_night_26 : decode cX1_night 26 = .ok (.ifCond .ne 12, 3) := dk_154 0 12 (dk_at dksX1_night_1 4 rfl rfl)
theorem dX1_night_29 : decode cX1_night 29 = .ok (.aload_n 0, 1) := dk_42 (dk_at dksX1_night_1 7 rfl rfl)
theorem dX1_night_30 : decode cX1_night 30 = .ok (.getfield 192, 3) := dk_180 0 192 (dk_at dksX1_night_1 8 rfl rfl)
theorem dX1_night_33 : decode cX1_night 33 = .ok (.iload_n 1, 1) := dk_27 (dk_at dksX1_night_1 11 rfl rfl)
theorem dX1_night_34 : decode cX1_night 34 = .ok (.iaload, 1) := dk_46 (dk_at dksX1_night_1 12 rfl rfl)
theorem dX1_night_35 : decode cX1_night 35 = .ok (.goto 37, 3) := dk_167 0 37 (dk_at dksX1_night_1 13 rfl rfl)
theorem dX1_night_38 : decode cX1_night 38 = .ok (.iload_n 2, 1) := dk_28 (dk_at dksX1_night_1 16 rfl rfl)
theorem dX1_night_39 : decode cX1_night 39 = .ok (.iconst 1, 1) := dk_4 (dk_at dksX1_night_1 17 rfl rfl)
theorem dX1_night_40 : decode cX1_night 40 = .ok (.if_icmp .ne 12, 3) := dk_160 0 12 (dk_at dksX1_night_1 18 rfl rfl)
theorem dX1_night_43 : decode cX1_night 43 = .ok (.aload_n 0, 1) := dk_42 (dk_at dksX1_night_1 21 rfl rfl)
theorem dX1_night_44 : decode cX1_night 44 = .ok (.getfield 195, 3) := dk_180 0 195 (dk_at dksX1_night_2 0 rfl rfl)
theorem dX1_night_47 : decode cX1_night 47 = .ok (.iload_n 1, 1) := dk_27 (dk_at dksX1_night_2 3 rfl rfl)
theorem dX1_night_48 : decode cX1_night 48 = .ok (.iaload, 1) := dk_46 (dk_at dksX1_night_2 4 rfl rfl)
theorem dX1_night_49 : decode cX1_night 49 = .ok (.goto 23, 3) := dk_167 0 23 (dk_at dksX1_night_2 5 rfl rfl)
theorem dX1_night_52 : decode cX1_night 52 = .ok (.iload_n 2, 1) := dk_28 (dk_at dksX1_night_2 8 rfl rfl)
theorem dX1_night_53 : decode cX1_night 53 = .ok (.iconst 2, 1) := dk_5 (dk_at dksX1_night_2 9 rfl rfl)
theorem dX1_night_54 : decode cX1_night 54 = .ok (.if_icmp .ne 12, 3) := dk_160 0 12 (dk_at dksX1_night_2 10 rfl rfl)
theorem dX1_night_57 : decode cX1_night 57 = .ok (.aload_n 0, 1) := dk_42 (dk_at dksX1_night_2 13 rfl rfl)
theorem dX1_night_58 : decode cX1_night 58 = .ok (.getfield 197, 3) := dk_180 0 197 (dk_at dksX1_night_2 14 rfl rfl)
theorem dX1_night_61 : decode cX1_night 61 = .ok (.iload_n 1, 1) := dk_27 (dk_at dksX1_night_2 17 rfl rfl)
theorem dX1_night_62 : decode cX1_night 62 = .ok (.iaload, 1) := dk_46 (dk_at dksX1_night_2 18 rfl rfl)
theorem dX1_night_63 : decode cX1_night 63 = .ok (.goto 9, 3) := dk_167 0 9 (dk_at dksX1_night_2 19 rfl rfl)
theorem dX1_night_66 : decode cX1_night 66 = .ok (.aload_n 0, 1) := dk_42 (dk_at dksX1_night_2 22 rfl rfl)
theorem dX1_night_67 : decode cX1_night 67 = .ok (.getfield 200, 3) := dk_180 0 200 (dk_at dksX1_night_3 0 rfl rfl)
theorem dX1_night_70 : decode cX1_night 70 = .ok (.iload_n 1, 1) := dk_27 (dk_at dksX1_night_3 3 rfl rfl)
theorem dX1_night_71 : decode cX1_night 71 = .ok (.iaload, 1) := dk_46 (dk_at dksX1_night_3 4 rfl rfl)
theorem dX1_night_72 : decode cX1_night 72 = .ok (.ireturn, 1) := dk_172 (dk_at dksX1_night_3 5 rfl rfl)
abbrev cX1_nights : ByteArray := prog_1_method_52_code
def yX1_nights : MethodName := ⟨RX1, "nights", "()V"⟩
def dkwX1_nights_13 : List UInt8 := [177]
abbrev dktX1_nights_13 : List UInt8 := dkwX1_nights_13 ++ []
def dkwX1_nights_12 : List UInt8 := [21, 5, 42, 180, 0, 189, 182, 1, 189, 79, 42, 180, 0, 200, 21, 5, 28, 79, 132, 5, 1, 167, 254, 245]
abbrev dktX1_nights_12 : List UInt8 := dkwX1_nights_12 ++ dktX1_nights_13
def dkwX1_nights_11 : List UInt8 := [21, 5, 46, 182, 1, 201, 42, 180, 0, 195, 21, 5, 42, 180, 0, 189, 180, 1, 203, 79, 42, 180, 0, 197]
abbrev dktX1_nights_11 : List UInt8 := dkwX1_nights_11 ++ dktX1_nights_12
def dkwX1_nights_10 : List UInt8 := [167, 0, 7, 43, 180, 1, 254, 61, 42, 180, 0, 189, 42, 180, 0, 189, 29, 182, 1, 198, 42, 180, 0, 192]
abbrev dktX1_nights_10 : List UInt8 := dkwX1_nights_10 ++ dktX1_nights_11
def dkwX1_nights_9 : List UInt8 := [21, 5, 43, 199, 0, 7, 3, 167, 0, 9, 43, 16, 60, 182, 1, 253, 79, 43, 199, 0, 7, 28]
abbrev dktX1_nights_9 : List UInt8 := dkwX1_nights_9 ++ dktX1_nights_10
def dkwX1_nights_8 : List UInt8 := [25, 6, 180, 1, 247, 25, 6, 180, 1, 249, 28, 182, 1, 250, 132, 4, 1, 167, 255, 94, 42, 180, 0, 192]
abbrev dktX1_nights_8 : List UInt8 := dkwX1_nights_8 ++ dktX1_nights_9
def dkwX1_nights_7 : List UInt8 := [160, 0, 10, 42, 180, 0, 132, 167, 0, 4, 1, 76, 43, 198, 0, 25, 43, 42, 180, 0, 96, 180, 0, 241]
abbrev dktX1_nights_7 : List UInt8 := dkwX1_nights_7 ++ dktX1_nights_8
def dkwX1_nights_6 : List UInt8 := [167, 0, 62, 25, 6, 180, 1, 241, 154, 0, 10, 42, 180, 0, 122, 167, 0, 20, 25, 6, 180, 1, 241, 4]
abbrev dktX1_nights_6 : List UInt8 := dkwX1_nights_6 ++ dktX1_nights_7
def dkwX1_nights_5 : List UInt8 := [42, 180, 0, 189, 25, 6, 180, 1, 244, 182, 1, 226, 87, 25, 6, 180, 1, 241, 5, 164, 0, 6]
abbrev dktX1_nights_5 : List UInt8 := dkwX1_nights_5 ++ dktX1_nights_6
def dkwX1_nights_4 : List UInt8 := [25, 6, 180, 1, 241, 6, 160, 0, 9, 25, 6, 180, 1, 244, 62, 25, 6, 180, 1, 241, 7, 160, 0, 16]
abbrev dktX1_nights_4 : List UInt8 := dkwX1_nights_4 ++ dktX1_nights_5
def dkwX1_nights_3 : List UInt8 := [50, 180, 1, 237, 21, 5, 160, 0, 132, 42, 180, 0, 96, 180, 0, 248, 180, 1, 234, 21, 4, 50, 58, 6]
abbrev dktX1_nights_3 : List UInt8 := dkwX1_nights_3 ++ dktX1_nights_4
def dkwX1_nights_2 : List UInt8 := [180, 0, 96, 180, 0, 248, 180, 1, 9, 162, 0, 153, 42, 180, 0, 96, 180, 0, 248, 180, 1, 234, 21, 4]
abbrev dktX1_nights_2 : List UInt8 := dkwX1_nights_2 ++ dktX1_nights_3
def dkwX1_nights_1 : List UInt8 := [180, 1, 65, 61, 4, 62, 3, 54, 4, 3, 54, 5, 21, 5, 16, 60, 162, 1, 10, 21, 4, 42]
abbrev dktX1_nights_1 : List UInt8 := dkwX1_nights_1 ++ dktX1_nights_2
def dkwX1_nights_0 : List UInt8 := [42, 180, 0, 189, 42, 180, 0, 96, 180, 0, 241, 182, 1, 183, 1, 76, 42, 180, 0, 96, 180, 0, 241]
abbrev dktX1_nights_0 : List UInt8 := dkwX1_nights_0 ++ dktX1_nights_1
theorem dksX1_nights_0 : cX1_nights.data.toList.drop 0 = dktX1_nights_0 := by decide +kernel
theorem dksX1_nights_1 : cX1_nights.data.toList.drop 23 = dktX1_nights_1 := dk_seg dksX1_nights_0 23 rfl rfl
theorem dksX1_nights_2 : cX1_nights.data.toList.drop 45 = dktX1_nights_2 := dk_seg dksX1_nights_1 22 rfl rfl
theorem dksX1_nights_3 : cX1_nights.data.toList.drop 69 = dktX1_nights_3 := dk_seg dksX1_nights_2 24 rfl rfl
theorem dksX1_nights_4 : cX1_nights.data.toList.drop 93 = dktX1_nights_4 := dk_seg dksX1_nights_3 24 rfl rfl
theorem dksX1_nights_5 : cX1_nights.data.toList.drop 117 = dktX1_nights_5 := dk_seg dksX1_nights_4 24 rfl rfl
theorem dksX1_nights_6 : cX1_nights.data.toList.drop 139 = dktX1_nights_6 := dk_seg dksX1_nights_5 22 rfl rfl
theorem dksX1_nights_7 : cX1_nights.data.toList.drop 163 = dktX1_nights_7 := dk_seg dksX1_nights_6 24 rfl rfl
theorem dksX1_nights_8 : cX1_nights.data.toList.drop 187 = dktX1_nights_8 := dk_seg dksX1_nights_7 24 rfl rfl
theorem dksX1_nights_9 : cX1_nights.data.toList.drop 211 = dktX1_nights_9 := dk_seg dksX1_nights_8 24 rfl rfl
theorem dksX1_nights_10 : cX1_nights.data.toList.drop 233 = dktX1_nights_10 := dk_seg dksX1_nights_9 22 rfl rfl
theorem dksX1_nights_11 : cX1_nights.data.toList.drop 257 = dktX1_nights_11 := dk_seg dksX1_nights_10 24 rfl rfl
theorem dksX1_nights_12 : cX1_nights.data.toList.drop 281 = dktX1_nights_12 := dk_seg dksX1_nights_11 24 rfl rfl
theorem dksX1_nights_13 : cX1_nights.data.toList.drop 305 = dktX1_nights_13 := dk_seg dksX1_nights_12 24 rfl rfl
theorem dX1_nights_0 : decode cX1_nights 0 = .ok (.aload_n 0, 1) := dk_42 (dk_at dksX1_nights_0 0 rfl rfl)
theorem dX1_nights_1 : decode cX1_nights 1 = .ok (.getfield 189, 3) := dk_180 0 189 (dk_at dksX1_nights_0 1 rfl rfl)
theorem dX1_nights_4 : decode cX1_nights 4 = .ok (.aload_n 0, 1) := dk_42 (dk_at dksX1_nights_0 4 rfl rfl)
theorem dX1_nights_5 : decode cX1_nights 5 = .ok (.getfield 96, 3) := dk_180 0 96 (dk_at dksX1_nights_0 5 rfl rfl)
theorem dX1_nights_8 : decode cX1_nights 8 = .ok (.getfield 241, 3) := dk_180 0 241 (dk_at dksX1_nights_0 8 rfl rfl)
theorem dX1_nights_11 : decode cX1_nights 11 = .ok (.invokevirtual 439, 3) := dk_182 1 183 (dk_at dksX1_nights_0 11 rfl rfl)
theorem dX1_nights_14 : decode cX1_nights 14 = .ok (.aconst_null, 1) := dk_1 (dk_at dksX1_nights_0 14 rfl rfl)
theorem dX1_nights_15 : decode cX1_nights 15 = .ok (.astore_n 1, 1) := dk_76 (dk_at dksX1_nights_0 15 rfl rfl)
theorem dX1_nights_16 : decode cX1_nights 16 = .ok (.aload_n 0, 1) := dk_42 (dk_at dksX1_nights_0 16 rfl rfl)
theorem dX1_nights_17 : decode cX1_nights 17 = .ok (.getfield 96, 3) := dk_180 0 96 (dk_at dksX1_nights_0 17 rfl rfl)
theorem dX1_nights_20 : decode cX1_nights 20 = .ok (.getfield 241, 3) := dk_180 0 241 (dk_at dksX1_nights_0 20 rfl rfl)
theorem dX1_nights_23 : decode cX1_nights 23 = .ok (.getfield 321, 3) := dk_180 1 65 (dk_at dksX1_nights_1 0 rfl rfl)
theorem dX1_nights_26 : decode cX1_nights 26 = .ok (.istore_n 2, 1) := dk_61 (dk_at dksX1_nights_1 3 rfl rfl)
theorem dX1_nights_27 : decode cX1_nights 27 = .ok (.iconst 1, 1) := dk_4 (dk_at dksX1_nights_1 4 rfl rfl)
theorem dX1_nights_28 : decode cX1_nights 28 = .ok (.istore_n 3, 1) := dk_62 (dk_at dksX1_nights_1 5 rfl rfl)
theorem dX1_nights_29 : decode cX1_nights 29 = .ok (.iconst 0, 1) := dk_3 (dk_at dksX1_nights_1 6 rfl rfl)
theorem dX1_nights_30 : decode cX1_nights 30 = .ok (.istore 4, 2) := dk_54 4 (dk_at dksX1_nights_1 7 rfl rfl)
theorem dX1_nights_32 : decode cX1_nights 32 = .ok (.iconst 0, 1) := dk_3 (dk_at dksX1_nights_1 9 rfl rfl)
theorem dX1_nights_33 : decode cX1_nights 33 = .ok (.istore 5, 2) := dk_54 5 (dk_at dksX1_nights_1 10 rfl rfl)
theorem dX1_nights_35 : decode cX1_nights 35 = .ok (.iload 5, 2) := dk_21 5 (dk_at dksX1_nights_1 12 rfl rfl)
theorem dX1_nights_37 : decode cX1_nights 37 = .ok (.bipush 60, 2) := dk_16 60 (dk_at dksX1_nights_1 14 rfl rfl)
theorem dX1_nights_39 : decode cX1_nights 39 = .ok (.if_icmp .ge 266, 3) := dk_162 1 10 (dk_at dksX1_nights_1 16 rfl rfl)
theorem dX1_nights_42 : decode cX1_nights 42 = .ok (.iload 4, 2) := dk_21 4 (dk_at dksX1_nights_1 19 rfl rfl)
theorem dX1_nights_44 : decode cX1_nights 44 = .ok (.aload_n 0, 1) := dk_42 (dk_at dksX1_nights_1 21 rfl rfl)
theorem dX1_nights_45 : decode cX1_nights 45 = .ok (.getfield 96, 3) := dk_180 0 96 (dk_at dksX1_nights_2 0 rfl rfl)
theorem dX1_nights_48 : decode cX1_nights 48 = .ok (.getfield 248, 3) := dk_180 0 248 (dk_at dksX1_nights_2 3 rfl rfl)
theorem dX1_nights_51 : decode cX1_nights 51 = .ok (.getfield 265, 3) := dk_180 1 9 (dk_at dksX1_nights_2 6 rfl rfl)
theorem dX1_nights_54 : decode cX1_nights 54 = .ok (.if_icmp .ge 153, 3) := dk_162 0 153 (dk_at dksX1_nights_2 9 rfl rfl)
theorem dX1_nights_57 : decode cX1_nights 57 = .ok (.aload_n 0, 1) := dk_42 (dk_at dksX1_nights_2 12 rfl rfl)
theorem dX1_nights_58 : decode cX1_nights 58 = .ok (.getfield 96, 3) := dk_180 0 96 (dk_at dksX1_nights_2 13 rfl rfl)
theorem dX1_nights_61 : decode cX1_nights 61 = .ok (.getfield 248, 3) := dk_180 0 248 (dk_at dksX1_nights_2 16 rfl rfl)
theorem dX1_nights_64 : decode cX1_nights 64 = .ok (.getfield 490, 3) := dk_180 1 234 (dk_at dksX1_nights_2 19 rfl rfl)
theorem dX1_nights_67 : decode cX1_nights 67 = .ok (.iload 4, 2) := dk_21 4 (dk_at dksX1_nights_2 22 rfl rfl)
theorem dX1_nights_69 : decode cX1_nights 69 = .ok (.aaload, 1) := dk_50 (dk_at dksX1_nights_3 0 rfl rfl)
theorem dX1_nights_70 : decode cX1_nights 70 = .ok (.getfield 493, 3) := dk_180 1 237 (dk_at dksX1_nights_3 1 rfl rfl)
theorem dX1_nights_73 : decode cX1_nights 73 = .ok (.iload 5, 2) := dk_21 5 (dk_at dksX1_nights_3 4 rfl rfl)
theorem dX1_nights_75 : decode cX1_nights 75 = .ok (.if_icmp .ne 132, 3) := dk_160 0 132 (dk_at dksX1_nights_3 6 rfl rfl)
theorem dX1_nights_78 : decode cX1_nights 78 = .ok (.aload_n 0, 1) := dk_42 (dk_at dksX1_nights_3 9 rfl rfl)
theorem dX1_nights_79 : decode cX1_nights 79 = .ok (.getfield 96, 3) := dk_180 0 96 (dk_at dksX1_nights_3 10 rfl rfl)
theorem dX1_nights_82 : decode cX1_nights 82 = .ok (.getfield 248, 3) := dk_180 0 248 (dk_at dksX1_nights_3 13 rfl rfl)
theorem dX1_nights_85 : decode cX1_nights 85 = .ok (.getfield 490, 3) := dk_180 1 234 (dk_at dksX1_nights_3 16 rfl rfl)
theorem dX1_nights_88 : decode cX1_nights 88 = .ok (.iload 4, 2) := dk_21 4 (dk_at dksX1_nights_3 19 rfl rfl)
theorem dX1_nights_90 : decode cX1_nights 90 = .ok (.aaload, 1) := dk_50 (dk_at dksX1_nights_3 21 rfl rfl)
theorem dX1_nights_91 : decode cX1_nights 91 = .ok (.astore 6, 2) := dk_58 6 (dk_at dksX1_nights_3 22 rfl rfl)
theorem dX1_nights_93 : decode cX1_nights 93 = .ok (.aload 6, 2) := dk_25 6 (dk_at dksX1_nights_4 0 rfl rfl)
theorem dX1_nights_95 : decode cX1_nights 95 = .ok (.getfield 497, 3) := dk_180 1 241 (dk_at dksX1_nights_4 2 rfl rfl)
theorem dX1_nights_98 : decode cX1_nights 98 = .ok (.iconst 3, 1) := dk_6 (dk_at dksX1_nights_4 5 rfl rfl)
theorem dX1_nights_99 : decode cX1_nights 99 = .ok (.if_icmp .ne 9, 3) := dk_160 0 9 (dk_at dksX1_nights_4 6 rfl rfl)
theorem dX1_nights_102 : decode cX1_nights 102 = .ok (.aload 6, 2) := dk_25 6 (dk_at dksX1_nights_4 9 rfl rfl)
theorem dX1_nights_104 : decode cX1_nights 104 = .ok (.getfield 500, 3) := dk_180 1 244 (dk_at dksX1_nights_4 11 rfl rfl)
theorem dX1_nights_107 : decode cX1_nights 107 = .ok (.istore_n 3, 1) := dk_62 (dk_at dksX1_nights_4 14 rfl rfl)
theorem dX1_nights_108 : decode cX1_nights 108 = .ok (.aload 6, 2) := dk_25 6 (dk_at dksX1_nights_4 15 rfl rfl)
theorem dX1_nights_110 : decode cX1_nights 110 = .ok (.getfield 497, 3) := dk_180 1 241 (dk_at dksX1_nights_4 17 rfl rfl)
theorem dX1_nights_113 : decode cX1_nights 113 = .ok (.iconst 4, 1) := dk_7 (dk_at dksX1_nights_4 20 rfl rfl)
theorem dX1_nights_114 : decode cX1_nights 114 = .ok (.if_icmp .ne 16, 3) := dk_160 0 16 (dk_at dksX1_nights_4 21 rfl rfl)
theorem dX1_nights_117 : decode cX1_nights 117 = .ok (.aload_n 0, 1) := dk_42 (dk_at dksX1_nights_5 0 rfl rfl)
theorem dX1_nights_118 : decode cX1_nights 118 = .ok (.getfield 189, 3) := dk_180 0 189 (dk_at dksX1_nights_5 1 rfl rfl)
theorem dX1_nights_121 : decode cX1_nights 121 = .ok (.aload 6, 2) := dk_25 6 (dk_at dksX1_nights_5 4 rfl rfl)
theorem dX1_nights_123 : decode cX1_nights 123 = .ok (.getfield 500, 3) := dk_180 1 244 (dk_at dksX1_nights_5 6 rfl rfl)
theorem dX1_nights_126 : decode cX1_nights 126 = .ok (.invokevirtual 482, 3) := dk_182 1 226 (dk_at dksX1_nights_5 9 rfl rfl)
theorem dX1_nights_129 : decode cX1_nights 129 = .ok (.pop, 1) := dk_87 (dk_at dksX1_nights_5 12 rfl rfl)
theorem dX1_nights_130 : decode cX1_nights 130 = .ok (.aload 6, 2) := dk_25 6 (dk_at dksX1_nights_5 13 rfl rfl)
theorem dX1_nights_132 : decode cX1_nights 132 = .ok (.getfield 497, 3) := dk_180 1 241 (dk_at dksX1_nights_5 15 rfl rfl)
theorem dX1_nights_135 : decode cX1_nights 135 = .ok (.iconst 2, 1) := dk_5 (dk_at dksX1_nights_5 18 rfl rfl)
theorem dX1_nights_136 : decode cX1_nights 136 = .ok (.if_icmp .le 6, 3) := dk_164 0 6 (dk_at dksX1_nights_5 19 rfl rfl)
theorem dX1_nights_139 : decode cX1_nights 139 = .ok (.goto 62, 3) := dk_167 0 62 (dk_at dksX1_nights_6 0 rfl rfl)
theorem dX1_nights_142 : decode cX1_nights 142 = .ok (.aload 6, 2) := dk_25 6 (dk_at dksX1_nights_6 3 rfl rfl)
theorem dX1_nights_144 : decode cX1_nights 144 = .ok (.getfield 497, 3) := dk_180 1 241 (dk_at dksX1_nights_6 5 rfl rfl)
theorem dX1_nights_147 : decode cX1_nights 147 = .ok (.ifCond .ne 10, 3) := dk_154 0 10 (dk_at dksX1_nights_6 8 rfl rfl)
theorem dX1_nights_150 : decode cX1_nights 150 = .ok (.aload_n 0, 1) := dk_42 (dk_at dksX1_nights_6 11 rfl rfl)
theorem dX1_nights_151 : decode cX1_nights 151 = .ok (.getfield 122, 3) := dk_180 0 122 (dk_at dksX1_nights_6 12 rfl rfl)
theorem dX1_nights_154 : decode cX1_nights 154 = .ok (.goto 20, 3) := dk_167 0 20 (dk_at dksX1_nights_6 15 rfl rfl)
theorem dX1_nights_157 : decode cX1_nights 157 = .ok (.aload 6, 2) := dk_25 6 (dk_at dksX1_nights_6 18 rfl rfl)
theorem dX1_nights_159 : decode cX1_nights 159 = .ok (.getfield 497, 3) := dk_180 1 241 (dk_at dksX1_nights_6 20 rfl rfl)
theorem dX1_nights_162 : decode cX1_nights 162 = .ok (.iconst 1, 1) := dk_4 (dk_at dksX1_nights_6 23 rfl rfl)
theorem dX1_nights_163 : decode cX1_nights 163 = .ok (.if_icmp .ne 10, 3) := dk_160 0 10 (dk_at dksX1_nights_7 0 rfl rfl)
theorem dX1_nights_166 : decode cX1_nights 166 = .ok (.aload_n 0, 1) := dk_42 (dk_at dksX1_nights_7 3 rfl rfl)
theorem dX1_nights_167 : decode cX1_nights 167 = .ok (.getfield 132, 3) := dk_180 0 132 (dk_at dksX1_nights_7 4 rfl rfl)
theorem dX1_nights_170 : decode cX1_nights 170 = .ok (.goto 4, 3) := dk_167 0 4 (dk_at dksX1_nights_7 7 rfl rfl)
theorem dX1_nights_173 : decode cX1_nights 173 = .ok (.aconst_null, 1) := dk_1 (dk_at dksX1_nights_7 10 rfl rfl)
theorem dX1_nights_174 : decode cX1_nights 174 = .ok (.astore_n 1, 1) := dk_76 (dk_at dksX1_nights_7 11 rfl rfl)
theorem dX1_nights_175 : decode cX1_nights 175 = .ok (.aload_n 1, 1) := dk_43 (dk_at dksX1_nights_7 12 rfl rfl)
theorem dX1_nights_176 : decode cX1_nights 176 = .ok (.ifnull 25, 3) := dk_198 0 25 (dk_at dksX1_nights_7 13 rfl rfl)
theorem dX1_nights_179 : decode cX1_nights 179 = .ok (.aload_n 1, 1) := dk_43 (dk_at dksX1_nights_7 16 rfl rfl)
theorem dX1_nights_180 : decode cX1_nights 180 = .ok (.aload_n 0, 1) := dk_42 (dk_at dksX1_nights_7 17 rfl rfl)
theorem dX1_nights_181 : decode cX1_nights 181 = .ok (.getfield 96, 3) := dk_180 0 96 (dk_at dksX1_nights_7 18 rfl rfl)
theorem dX1_nights_184 : decode cX1_nights 184 = .ok (.getfield 241, 3) := dk_180 0 241 (dk_at dksX1_nights_7 21 rfl rfl)
theorem dX1_nights_187 : decode cX1_nights 187 = .ok (.aload 6, 2) := dk_25 6 (dk_at dksX1_nights_8 0 rfl rfl)
theorem dX1_nights_189 : decode cX1_nights 189 = .ok (.getfield 503, 3) := dk_180 1 247 (dk_at dksX1_nights_8 2 rfl rfl)
theorem dX1_nights_192 : decode cX1_nights 192 = .ok (.aload 6, 2) := dk_25 6 (dk_at dksX1_nights_8 5 rfl rfl)
theorem dX1_nights_194 : decode cX1_nights 194 = .ok (.getfield 505, 3) := dk_180 1 249 (dk_at dksX1_nights_8 7 rfl rfl)
theorem dX1_nights_197 : decode cX1_nights 197 = .ok (.iload_n 2, 1) := dk_28 (dk_at dksX1_nights_8 10 rfl rfl)
theorem dX1_nights_198 : decode cX1_nights 198 = .ok (.invokevirtual 506, 3) := dk_182 1 250 (dk_at dksX1_nights_8 11 rfl rfl)
theorem dX1_nights_201 : decode cX1_nights 201 = .ok (.iinc 4 1, 3) := dk_132 4 1 (dk_at dksX1_nights_8 14 rfl rfl)
theorem dX1_nights_204 : decode cX1_nights 204 = .ok (.goto (-162), 3) := dk_167 255 94 (dk_at dksX1_nights_8 17 rfl rfl)
theorem dX1_nights_207 : decode cX1_nights 207 = .ok (.aload_n 0, 1) := dk_42 (dk_at dksX1_nights_8 20 rfl rfl)
theorem dX1_nights_208 : decode cX1_nights 208 = .ok (.getfield 192, 3) := dk_180 0 192 (dk_at dksX1_nights_8 21 rfl rfl)
theorem dX1_nights_211 : decode cX1_nights 211 = .ok (.iload 5, 2) := dk_21 5 (dk_at dksX1_nights_9 0 rfl rfl)
theorem dX1_nights_213 : decode cX1_nights 213 = .ok (.aload_n 1, 1) := dk_43 (dk_at dksX1_nights_9 2 rfl rfl)
theorem dX1_nights_214 : decode cX1_nights 214 = .ok (.ifnonnull 7, 3) := dk_199 0 7 (dk_at dksX1_nights_9 3 rfl rfl)
theorem dX1_nights_217 : decode cX1_nights 217 = .ok (.iconst 0, 1) := dk_3 (dk_at dksX1_nights_9 6 rfl rfl)
theorem dX1_nights_218 : decode cX1_nights 218 = .ok (.goto 9, 3) := dk_167 0 9 (dk_at dksX1_nights_9 7 rfl rfl)
theorem dX1_nights_221 : decode cX1_nights 221 = .ok (.aload_n 1, 1) := dk_43 (dk_at dksX1_nights_9 10 rfl rfl)
theorem dX1_nights_222 : decode cX1_nights 222 = .ok (.bipush 60, 2) := dk_16 60 (dk_at dksX1_nights_9 11 rfl rfl)
theorem dX1_nights_224 : decode cX1_nights 224 = .ok (.invokevirtual 509, 3) := dk_182 1 253 (dk_at dksX1_nights_9 13 rfl rfl)
theorem dX1_nights_227 : decode cX1_nights 227 = .ok (.iastore, 1) := dk_79 (dk_at dksX1_nights_9 16 rfl rfl)
theorem dX1_nights_228 : decode cX1_nights 228 = .ok (.aload_n 1, 1) := dk_43 (dk_at dksX1_nights_9 17 rfl rfl)
theorem dX1_nights_229 : decode cX1_nights 229 = .ok (.ifnonnull 7, 3) := dk_199 0 7 (dk_at dksX1_nights_9 18 rfl rfl)
theorem dX1_nights_232 : decode cX1_nights 232 = .ok (.iload_n 2, 1) := dk_28 (dk_at dksX1_nights_9 21 rfl rfl)
theorem dX1_nights_233 : decode cX1_nights 233 = .ok (.goto 7, 3) := dk_167 0 7 (dk_at dksX1_nights_10 0 rfl rfl)
theorem dX1_nights_236 : decode cX1_nights 236 = .ok (.aload_n 1, 1) := dk_43 (dk_at dksX1_nights_10 3 rfl rfl)
theorem dX1_nights_237 : decode cX1_nights 237 = .ok (.getfield 510, 3) := dk_180 1 254 (dk_at dksX1_nights_10 4 rfl rfl)
theorem dX1_nights_240 : decode cX1_nights 240 = .ok (.istore_n 2, 1) := dk_61 (dk_at dksX1_nights_10 7 rfl rfl)
theorem dX1_nights_241 : decode cX1_nights 241 = .ok (.aload_n 0, 1) := dk_42 (dk_at dksX1_nights_10 8 rfl rfl)
theorem dX1_nights_242 : decode cX1_nights 242 = .ok (.getfield 189, 3) := dk_180 0 189 (dk_at dksX1_nights_10 9 rfl rfl)
theorem dX1_nights_245 : decode cX1_nights 245 = .ok (.aload_n 0, 1) := dk_42 (dk_at dksX1_nights_10 12 rfl rfl)
theorem dX1_nights_246 : decode cX1_nights 246 = .ok (.getfield 189, 3) := dk_180 0 189 (dk_at dksX1_nights_10 13 rfl rfl)
theorem dX1_nights_249 : decode cX1_nights 249 = .ok (.iload_n 3, 1) := dk_29 (dk_at dksX1_nights_10 16 rfl rfl)
theorem dX1_nights_250 : decode cX1_nights 250 = .ok (.invokevirtual 454, 3) := dk_182 1 198 (dk_at dksX1_nights_10 17 rfl rfl)
theorem dX1_nights_253 : decode cX1_nights 253 = .ok (.aload_n 0, 1) := dk_42 (dk_at dksX1_nights_10 20 rfl rfl)
theorem dX1_nights_254 : decode cX1_nights 254 = .ok (.getfield 192, 3) := dk_180 0 192 (dk_at dksX1_nights_10 21 rfl rfl)
theorem dX1_nights_257 : decode cX1_nights 257 = .ok (.iload 5, 2) := dk_21 5 (dk_at dksX1_nights_11 0 rfl rfl)
theorem dX1_nights_259 : decode cX1_nights 259 = .ok (.iaload, 1) := dk_46 (dk_at dksX1_nights_11 2 rfl rfl)
theorem dX1_nights_260 : decode cX1_nights 260 = .ok (.invokevirtual 457, 3) := dk_182 1 201 (dk_at dksX1_nights_11 3 rfl rfl)
theorem dX1_nights_263 : decode cX1_nights 263 = .ok (.aload_n 0, 1) := dk_42 (dk_at dksX1_nights_11 6 rfl rfl)
theorem dX1_nights_264 : decode cX1_nights 264 = .ok (.getfield 195, 3) := dk_180 0 195 (dk_at dksX1_nights_11 7 rfl rfl)
theorem dX1_nights_267 : decode cX1_nights 267 = .ok (.iload 5, 2) := dk_21 5 (dk_at dksX1_nights_11 10 rfl rfl)
theorem dX1_nights_269 : decode cX1_nights 269 = .ok (.aload_n 0, 1) := dk_42 (dk_at dksX1_nights_11 12 rfl rfl)
theorem dX1_nights_270 : decode cX1_nights 270 = .ok (.getfield 189, 3) := dk_180 0 189 (dk_at dksX1_nights_11 13 rfl rfl)
theorem dX1_nights_273 : decode cX1_nights 273 = .ok (.getfield 459, 3) := dk_180 1 203 (dk_at dksX1_nights_11 16 rfl rfl)
theorem dX1_nights_276 : decode cX1_nights 276 = .ok (.iastore, 1) := dk_79 (dk_at dksX1_nights_11 19 rfl rfl)
theorem dX1_nights_277 : decode cX1_nights 277 = .ok (.aload_n 0, 1) := dk_42 (dk_at dksX1_nights_11 20 rfl rfl)
theorem dX1_nights_278 : decode cX1_nights 278 = .ok (.getfield 197, 3) := dk_180 0 197 (dk_at dksX1_nights_11 21 rfl rfl)
theorem dX1_nights_281 : decode cX1_nights 281 = .ok (.iload 5, 2) := dk_21 5 (dk_at dksX1_nights_12 0 rfl rfl)
theorem dX1_nights_283 : decode cX1_nights 283 = .ok (.aload_n 0, 1) := dk_42 (dk_at dksX1_nights_12 2 rfl rfl)
theorem dX1_nights_284 : decode cX1_nights 284 = .ok (.getfield 189, 3) := dk_180 0 189 (dk_at dksX1_nights_12 3 rfl rfl)
theorem dX1_nights_287 : decode cX1_nights 287 = .ok (.invokevirtual 445, 3) := dk_182 1 189 (dk_at dksX1_nights_12 6 rfl rfl)
theorem dX1_nights_290 : decode cX1_nights 290 = .ok (.iastore, 1) := dk_79 (dk_at dksX1_nights_12 9 rfl rfl)
theorem dX1_nights_291 : decode cX1_nights 291 = .ok (.aload_n 0, 1) := dk_42 (dk_at dksX1_nights_12 10 rfl rfl)
theorem dX1_nights_292 : decode cX1_nights 292 = .ok (.getfield 200, 3) := dk_180 0 200 (dk_at dksX1_nights_12 11 rfl rfl)
theorem dX1_nights_295 : decode cX1_nights 295 = .ok (.iload 5, 2) := dk_21 5 (dk_at dksX1_nights_12 14 rfl rfl)
theorem dX1_nights_297 : decode cX1_nights 297 = .ok (.iload_n 2, 1) := dk_28 (dk_at dksX1_nights_12 16 rfl rfl)
theorem dX1_nights_298 : decode cX1_nights 298 = .ok (.iastore, 1) := dk_79 (dk_at dksX1_nights_12 17 rfl rfl)
theorem dX1_nights_299 : decode cX1_nights 299 = .ok (.iinc 5 1, 3) := dk_132 5 1 (dk_at dksX1_nights_12 18 rfl rfl)
theorem dX1_nights_302 : decode cX1_nights 302 = .ok (.goto (-267), 3) := dk_167 254 245 (dk_at dksX1_nights_12 21 rfl rfl)
theorem dX1_nights_305 : decode cX1_nights 305 = .ok (.return_, 1) := dk_177 (dk_at dksX1_nights_13 0 rfl rfl)
abbrev cX1_sentence : ByteArray := prog_1_method_54_code
def yX1_sentence : MethodName := ⟨RX1, "sentence", "()I"⟩
def dkwX1_sentence_1 : List UInt8 := [180, 0, 206, 180, 2, 5, 172, 76, 42, 43, 180, 1, 0, 181, 0, 231, 2, 43, 180, 1, 3, 100, 172]
abbrev dktX1_sentence_1 : List UInt8 := dkwX1_sentence_1 ++ []
def dkwX1_sentence_0 : List UInt8 := [42, 182, 0, 228, 42, 3, 181, 0, 231, 42, 180, 0, 96, 42, 180, 0, 206, 182, 2, 2, 181, 0, 252, 42]
abbrev dktX1_sentence_0 : List UInt8 := dkwX1_sentence_0 ++ dktX1_sentence_1
theorem dksX1_sentence_0 : cX1_sentence.data.toList.drop 0 = dktX1_sentence_0 := by decide +kernel
theorem dksX1_sentence_1 : cX1_sentence.data.toList.drop 24 = dktX1_sentence_1 := dk_seg dksX1_sentence_0 24 rfl rfl
theorem dX1_sentence_0 : decode cX1_sentence 0 = .ok (.aload_n 0, 1) := dk_42 (dk_at dksX1_sentence_0 0 rfl rfl)
theorem dX1_sentence_1 : decode cX1_sentence 1 = .ok (.invokevirtual 228, 3) := dk_182 0 228 (dk_at dksX1_sentence_0 1 rfl rfl)
theorem dX1_sentence_4 : decode cX1_sentence 4 = .ok (.aload_n 0, 1) := dk_42 (dk_at dksX1_sentence_0 4 rfl rfl)
theorem dX1_sentence_5 : decode cX1_sentence 5 = .ok (.iconst 0, 1) := dk_3 (dk_at dksX1_sentence_0 5 rfl rfl)
theorem dX1_sentence_6 : decode cX1_sentence 6 = .ok (.putfield 231, 3) := dk_181 0 231 (dk_at dksX1_sentence_0 6 rfl rfl)
theorem dX1_sentence_9 : decode cX1_sentence 9 = .ok (.aload_n 0, 1) := dk_42 (dk_at dksX1_sentence_0 9 rfl rfl)
theorem dX1_sentence_10 : decode cX1_sentence 10 = .ok (.getfield 96, 3) := dk_180 0 96 (dk_at dksX1_sentence_0 10 rfl rfl)
theorem dX1_sentence_13 : decode cX1_sentence 13 = .ok (.aload_n 0, 1) := dk_42 (dk_at dksX1_sentence_0 13 rfl rfl)
theorem dX1_sentence_14 : decode cX1_sentence 14 = .ok (.getfield 206, 3) := dk_180 0 206 (dk_at dksX1_sentence_0 14 rfl rfl)
theorem dX1_sentence_17 : decode cX1_sentence 17 = .ok (.invokevirtual 514, 3) := dk_182 2 2 (dk_at dksX1_sentence_0 17 rfl rfl)
theorem dX1_sentence_20 : decode cX1_sentence 20 = .ok (.putfield 252, 3) := dk_181 0 252 (dk_at dksX1_sentence_0 20 rfl rfl)
theorem dX1_sentence_23 : decode cX1_sentence 23 = .ok (.aload_n 0, 1) := dk_42 (dk_at dksX1_sentence_0 23 rfl rfl)
theorem dX1_sentence_24 : decode cX1_sentence 24 = .ok (.getfield 206, 3) := dk_180 0 206 (dk_at dksX1_sentence_1 0 rfl rfl)
theorem dX1_sentence_27 : decode cX1_sentence 27 = .ok (.getfield 517, 3) := dk_180 2 5 (dk_at dksX1_sentence_1 3 rfl rfl)
theorem dX1_sentence_30 : decode cX1_sentence 30 = .ok (.ireturn, 1) := dk_172 (dk_at dksX1_sentence_1 6 rfl rfl)
theorem dX1_sentence_31 : decode cX1_sentence 31 = .ok (.astore_n 1, 1) := dk_76 (dk_at dksX1_sentence_1 7 rfl rfl)
theorem dX1_sentence_32 : decode cX1_sentence 32 = .ok (.aload_n 0, 1) := dk_42 (dk_at dksX1_sentence_1 8 rfl rfl)
theorem dX1_sentence_33 : decode cX1_sentence 33 = .ok (.aload_n 1, 1) := dk_43 (dk_at dksX1_sentence_1 9 rfl rfl)
theorem dX1_sentence_34 : decode cX1_sentence 34 = .ok (.getfield 256, 3) := dk_180 1 0 (dk_at dksX1_sentence_1 10 rfl rfl)
theorem dX1_sentence_37 : decode cX1_sentence 37 = .ok (.putfield 231, 3) := dk_181 0 231 (dk_at dksX1_sentence_1 13 rfl rfl)
theorem dX1_sentence_40 : decode cX1_sentence 40 = .ok (.iconst (-1), 1) := dk_2 (dk_at dksX1_sentence_1 16 rfl rfl)
theorem dX1_sentence_41 : decode cX1_sentence 41 = .ok (.aload_n 1, 1) := dk_43 (dk_at dksX1_sentence_1 17 rfl rfl)
theorem dX1_sentence_42 : decode cX1_sentence 42 = .ok (.getfield 259, 3) := dk_180 1 3 (dk_at dksX1_sentence_1 18 rfl rfl)
theorem dX1_sentence_45 : decode cX1_sentence 45 = .ok (.isub, 1) := dk_100 (dk_at dksX1_sentence_1 21 rfl rfl)
theorem dX1_sentence_46 : decode cX1_sentence 46 = .ok (.ireturn, 1) := dk_172 (dk_at dksX1_sentence_1 22 rfl rfl)
abbrev cX1_said : ByteArray := prog_1_method_55_code
def yX1_said : MethodName := ⟨RX1, "said", "(I)I"⟩
def dkwX1_said_3 : List UInt8 := [28, 167, 0, 4, 2, 172]
abbrev dktX1_said_3 : List UInt8 := dkwX1_said_3 ++ []
def dkwX1_said_2 : List UInt8 := [167, 0, 13, 28, 27, 160, 0, 5, 29, 172, 132, 2, 1, 132, 3, 1, 167, 255, 219, 27, 2, 160, 0, 7]
abbrev dktX1_said_2 : List UInt8 := dkwX1_said_2 ++ dktX1_said_3
def dkwX1_said_1 : List UInt8 := [62, 29, 16, 60, 162, 0, 37, 42, 180, 0, 96, 180, 0, 252, 42, 29, 182, 2, 8, 154, 0, 6]
abbrev dktX1_said_1 : List UInt8 := dkwX1_said_1 ++ dktX1_said_2
def dkwX1_said_0 : List UInt8 := [42, 180, 0, 96, 180, 0, 252, 198, 0, 8, 27, 2, 162, 0, 5, 2, 172, 42, 182, 1, 255, 3, 61, 3]
abbrev dktX1_said_0 : List UInt8 := dkwX1_said_0 ++ dktX1_said_1
theorem dksX1_said_0 : cX1_said.data.toList.drop 0 = dktX1_said_0 := by decide +kernel
theorem dksX1_said_1 : cX1_said.data.toList.drop 24 = dktX1_said_1 := dk_seg dksX1_said_0 24 rfl rfl
theorem dksX1_said_2 : cX1_said.data.toList.drop 46 = dktX1_said_2 := dk_seg dksX1_said_1 22 rfl rfl
theorem dksX1_said_3 : cX1_said.data.toList.drop 70 = dktX1_said_3 := dk_seg dksX1_said_2 24 rfl rfl
theorem dX1_said_0 : decode cX1_said 0 = .ok (.aload_n 0, 1) := dk_42 (dk_at dksX1_said_0 0 rfl rfl)
theorem dX1_said_1 : decode cX1_said 1 = .ok (.getfield 96, 3) := dk_180 0 96 (dk_at dksX1_said_0 1 rfl rfl)
theorem dX1_said_4 : decode cX1_said 4 = .ok (.getfield 252, 3) := dk_180 0 252 (dk_at dksX1_said_0 4 rfl rfl)
theorem dX1_said_7 : decode cX1_said 7 = .ok (.ifnull 8, 3) := dk_198 0 8 (dk_at dksX1_said_0 7 rfl rfl)
theorem dX1_said_10 : decode cX1_said 10 = .ok (.iload_n 1, 1) := dk_27 (dk_at dksX1_said_0 10 rfl rfl)
theorem dX1_said_11 : decode cX1_said 11 = .ok (.iconst (-1), 1) := dk_2 (dk_at dksX1_said_0 11 rfl rfl)
theorem dX1_said_12 : decode cX1_said 12 = .ok (.if_icmp .ge 5, 3) := dk_162 0 5 (dk_at dksX1_said_0 12 rfl rfl)
theorem dX1_said_15 : decode cX1_said 15 = .ok (.iconst (-1), 1) := dk_2 (dk_at dksX1_said_0 15 rfl rfl)
theorem dX1_said_16 : decode cX1_said 16 = .ok (.ireturn, 1) := dk_172 (dk_at dksX1_said_0 16 rfl rfl)
theorem dX1_said_17 : decode cX1_said 17 = .ok (.aload_n 0, 1) := dk_42 (dk_at dksX1_said_0 17 rfl rfl)
theorem dX1_said_18 : decode cX1_said 18 = .ok (.invokevirtual 511, 3) := dk_182 1 255 (dk_at dksX1_said_0 18 rfl rfl)
theorem dX1_said_21 : decode cX1_said 21 = .ok (.iconst 0, 1) := dk_3 (dk_at dksX1_said_0 21 rfl rfl)
theorem dX1_said_22 : decode cX1_said 22 = .ok (.istore_n 2, 1) := dk_61 (dk_at dksX1_said_0 22 rfl rfl)
theorem dX1_said_23 : decode cX1_said 23 = .ok (.iconst 0, 1) := dk_3 (dk_at dksX1_said_0 23 rfl rfl)
theorem dX1_said_24 : decode cX1_said 24 = .ok (.istore_n 3, 1) := dk_62 (dk_at dksX1_said_1 0 rfl rfl)
theorem dX1_said_25 : decode cX1_said 25 = .ok (.iload_n 3, 1) := dk_29 (dk_at dksX1_said_1 1 rfl rfl)
theorem dX1_said_26 : decode cX1_said 26 = .ok (.bipush 60, 2) := dk_16 60 (dk_at dksX1_said_1 2 rfl rfl)
theorem dX1_said_28 : decode cX1_said 28 = .ok (.if_icmp .ge 37, 3) := dk_162 0 37 (dk_at dksX1_said_1 4 rfl rfl)
theorem dX1_said_31 : decode cX1_said 31 = .ok (.aload_n 0, 1) := dk_42 (dk_at dksX1_said_1 7 rfl rfl)
theorem dX1_said_32 : decode cX1_said 32 = .ok (.getfield 96, 3) := dk_180 0 96 (dk_at dksX1_said_1 8 rfl rfl)
theorem dX1_said_35 : decode cX1_said 35 = .ok (.getfield 252, 3) := dk_180 0 252 (dk_at dksX1_said_1 11 rfl rfl)
theorem dX1_said_38 : decode cX1_said 38 = .ok (.aload_n 0, 1) := dk_42 (dk_at dksX1_said_1 14 rfl rfl)
theorem dX1_said_39 : decode cX1_said 39 = .ok (.iload_n 3, 1) := dk_29 (dk_at dksX1_said_1 15 rfl rfl)
theorem dX1_said_40 : decode cX1_said 40 = .ok (.invokevirtual 520, 3) := dk_182 2 8 (dk_at dksX1_said_1 16 rfl rfl)
theorem dX1_said_43 : decode cX1_said 43 = .ok (.ifCond .ne 6, 3) := dk_154 0 6 (dk_at dksX1_said_1 19 rfl rfl)
theorem dX1_said_46 : decode cX1_said 46 = .ok (.goto 13, 3) := dk_167 0 13 (dk_at dksX1_said_2 0 rfl rfl)
theorem dX1_said_49 : decode cX1_said 49 = .ok (.iload_n 2, 1) := dk_28 (dk_at dksX1_said_2 3 rfl rfl)
theorem dX1_said_50 : decode cX1_said 50 = .ok (.iload_n 1, 1) := dk_27 (dk_at dksX1_said_2 4 rfl rfl)
theorem dX1_said_51 : decode cX1_said 51 = .ok (.if_icmp .ne 5, 3) := dk_160 0 5 (dk_at dksX1_said_2 5 rfl rfl)
theorem dX1_said_54 : decode cX1_said 54 = .ok (.iload_n 3, 1) := dk_29 (dk_at dksX1_said_2 8 rfl rfl)
theorem dX1_said_55 : decode cX1_said 55 = .ok (.ireturn, 1) := dk_172 (dk_at dksX1_said_2 9 rfl rfl)
theorem dX1_said_56 : decode cX1_said 56 = .ok (.iinc 2 1, 3) := dk_132 2 1 (dk_at dksX1_said_2 10 rfl rfl)
theorem dX1_said_59 : decode cX1_said 59 = .ok (.iinc 3 1, 3) := dk_132 3 1 (dk_at dksX1_said_2 13 rfl rfl)
theorem dX1_said_62 : decode cX1_said 62 = .ok (.goto (-37), 3) := dk_167 255 219 (dk_at dksX1_said_2 16 rfl rfl)
theorem dX1_said_65 : decode cX1_said 65 = .ok (.iload_n 1, 1) := dk_27 (dk_at dksX1_said_2 19 rfl rfl)
theorem dX1_said_66 : decode cX1_said 66 = .ok (.iconst (-1), 1) := dk_2 (dk_at dksX1_said_2 20 rfl rfl)
theorem dX1_said_67 : decode cX1_said 67 = .ok (.if_icmp .ne 7, 3) := dk_160 0 7 (dk_at dksX1_said_2 21 rfl rfl)
theorem dX1_said_70 : decode cX1_said 70 = .ok (.iload_n 2, 1) := dk_28 (dk_at dksX1_said_3 0 rfl rfl)
theorem dX1_said_71 : decode cX1_said 71 = .ok (.goto 4, 3) := dk_167 0 4 (dk_at dksX1_said_3 1 rfl rfl)
theorem dX1_said_74 : decode cX1_said 74 = .ok (.iconst (-1), 1) := dk_2 (dk_at dksX1_said_3 4 rfl rfl)
theorem dX1_said_75 : decode cX1_said 75 = .ok (.ireturn, 1) := dk_172 (dk_at dksX1_said_3 5 rfl rfl)
abbrev cX1_image : ByteArray := prog_1_method_56_code
def yX1_image : MethodName := ⟨RX1, "image", "(I)Z"⟩
def dkwX1_image_1 : List UInt8 := [27, 187, 0, 93, 89, 183, 0, 95, 83, 42, 180, 0, 210, 27, 50, 42, 180, 0, 96, 182, 2, 14, 4, 172]
abbrev dktX1_image_1 : List UInt8 := dkwX1_image_1 ++ []
def dkwX1_image_0 : List UInt8 := [27, 3, 4, 184, 1, 15, 154, 0, 5, 3, 172, 42, 180, 0, 210, 27, 50, 199, 0, 16, 42, 180, 0, 210]
abbrev dktX1_image_0 : List UInt8 := dkwX1_image_0 ++ dktX1_image_1
theorem dksX1_image_0 : cX1_image.data.toList.drop 0 = dktX1_image_0 := by decide +kernel
theorem dksX1_image_1 : cX1_image.data.toList.drop 24 = dktX1_image_1 := dk_seg dksX1_image_0 24 rfl rfl
theorem dX1_image_0 : decode cX1_image 0 = .ok (.iload_n 1, 1) := dk_27 (dk_at dksX1_image_0 0 rfl rfl)
theorem dX1_image_1 : decode cX1_image 1 = .ok (.iconst 0, 1) := dk_3 (dk_at dksX1_image_0 1 rfl rfl)
theorem dX1_image_2 : decode cX1_image 2 = .ok (.iconst 1, 1) := dk_4 (dk_at dksX1_image_0 2 rfl rfl)
theorem dX1_image_3 : decode cX1_image 3 = .ok (.invokestatic 271, 3) := dk_184 1 15 (dk_at dksX1_image_0 3 rfl rfl)
theorem dX1_image_6 : decode cX1_image 6 = .ok (.ifCond .ne 5, 3) := dk_154 0 5 (dk_at dksX1_image_0 6 rfl rfl)
theorem dX1_image_9 : decode cX1_image 9 = .ok (.iconst 0, 1) := dk_3 (dk_at dksX1_image_0 9 rfl rfl)
theorem dX1_image_10 : decode cX1_image 10 = .ok (.ireturn, 1) := dk_172 (dk_at dksX1_image_0 10 rfl rfl)
theorem dX1_image_11 : decode cX1_image 11 = .ok (.aload_n 0, 1) := dk_42 (dk_at dksX1_image_0 11 rfl rfl)
theorem dX1_image_12 : decode cX1_image 12 = .ok (.getfield 210, 3) := dk_180 0 210 (dk_at dksX1_image_0 12 rfl rfl)
theorem dX1_image_15 : decode cX1_image 15 = .ok (.iload_n 1, 1) := dk_27 (dk_at dksX1_image_0 15 rfl rfl)
theorem dX1_image_16 : decode cX1_image 16 = .ok (.aaload, 1) := dk_50 (dk_at dksX1_image_0 16 rfl rfl)
theorem dX1_image_17 : decode cX1_image 17 = .ok (.ifnonnull 16, 3) := dk_199 0 16 (dk_at dksX1_image_0 17 rfl rfl)
theorem dX1_image_20 : decode cX1_image 20 = .ok (.aload_n 0, 1) := dk_42 (dk_at dksX1_image_0 20 rfl rfl)
theorem dX1_image_21 : decode cX1_image 21 = .ok (.getfield 210, 3) := dk_180 0 210 (dk_at dksX1_image_0 21 rfl rfl)
theorem dX1_image_24 : decode cX1_image 24 = .ok (.iload_n 1, 1) := dk_27 (dk_at dksX1_image_1 0 rfl rfl)
theorem dX1_image_25 : decode cX1_image 25 = .ok (.new 93, 3) := dk_187 0 93 (dk_at dksX1_image_1 1 rfl rfl)
theorem dX1_image_28 : decode cX1_image 28 = .ok (.dup, 1) := dk_89 (dk_at dksX1_image_1 4 rfl rfl)
theorem dX1_image_29 : decode cX1_image 29 = .ok (.invokespecial 95, 3) := dk_183 0 95 (dk_at dksX1_image_1 5 rfl rfl)
theorem dX1_image_32 : decode cX1_image 32 = .ok (.aastore, 1) := dk_83 (dk_at dksX1_image_1 8 rfl rfl)
theorem dX1_image_33 : decode cX1_image 33 = .ok (.aload_n 0, 1) := dk_42 (dk_at dksX1_image_1 9 rfl rfl)
theorem dX1_image_34 : decode cX1_image 34 = .ok (.getfield 210, 3) := dk_180 0 210 (dk_at dksX1_image_1 10 rfl rfl)
theorem dX1_image_37 : decode cX1_image 37 = .ok (.iload_n 1, 1) := dk_27 (dk_at dksX1_image_1 13 rfl rfl)
theorem dX1_image_38 : decode cX1_image 38 = .ok (.aaload, 1) := dk_50 (dk_at dksX1_image_1 14 rfl rfl)
theorem dX1_image_39 : decode cX1_image 39 = .ok (.aload_n 0, 1) := dk_42 (dk_at dksX1_image_1 15 rfl rfl)
theorem dX1_image_40 : decode cX1_image 40 = .ok (.getfield 96, 3) := dk_180 0 96 (dk_at dksX1_image_1 16 rfl rfl)
theorem dX1_image_43 : decode cX1_image 43 = .ok (.invokevirtual 526, 3) := dk_182 2 14 (dk_at dksX1_image_1 19 rfl rfl)
theorem dX1_image_46 : decode cX1_image 46 = .ok (.iconst 1, 1) := dk_4 (dk_at dksX1_image_1 22 rfl rfl)
theorem dX1_image_47 : decode cX1_image 47 = .ok (.ireturn, 1) := dk_172 (dk_at dksX1_image_1 23 rfl rfl)
abbrev cX1_restore : ByteArray := prog_1_method_57_code
def yX1_restore : MethodName := ⟨RX1, "restore", "(I)Z"⟩
def dkwX1_restore_1 : List UInt8 := [42, 180, 0, 210, 27, 50, 182, 2, 14, 4, 172]
abbrev dktX1_restore_1 : List UInt8 := dkwX1_restore_1 ++ []
def dkwX1_restore_0 : List UInt8 := [27, 3, 4, 184, 1, 15, 153, 0, 12, 42, 180, 0, 210, 27, 50, 199, 0, 5, 3, 172, 42, 180, 0, 96]
abbrev dktX1_restore_0 : List UInt8 := dkwX1_restore_0 ++ dktX1_restore_1
theorem dksX1_restore_0 : cX1_restore.data.toList.drop 0 = dktX1_restore_0 := by decide +kernel
theorem dksX1_restore_1 : cX1_restore.data.toList.drop 24 = dktX1_restore_1 := dk_seg dksX1_restore_0 24 rfl rfl
theorem dX1_restore_0 : decode cX1_restore 0 = .ok (.iload_n 1, 1) := dk_27 (dk_at dksX1_restore_0 0 rfl rfl)
theorem dX1_restore_1 : decode cX1_restore 1 = .ok (.iconst 0, 1) := dk_3 (dk_at dksX1_restore_0 1 rfl rfl)
theorem dX1_restore_2 : decode cX1_restore 2 = .ok (.iconst 1, 1) := dk_4 (dk_at dksX1_restore_0 2 rfl rfl)
theorem dX1_restore_3 : decode cX1_restore 3 = .ok (.invokestatic 271, 3) := dk_184 1 15 (dk_at dksX1_restore_0 3 rfl rfl)
theorem dX1_restore_6 : decode cX1_restore 6 = .ok (.ifCond .eq 12, 3) := dk_153 0 12 (dk_at dksX1_restore_0 6 rfl rfl)
theorem dX1_restore_9 : decode cX1_restore 9 = .ok (.aload_n 0, 1) := dk_42 (dk_at dksX1_restore_0 9 rfl rfl)
theorem dX1_restore_10 : decode cX1_restore 10 = .ok (.getfield 210, 3) := dk_180 0 210 (dk_at dksX1_restore_0 10 rfl rfl)
theorem dX1_restore_13 : decode cX1_restore 13 = .ok (.iload_n 1, 1) := dk_27 (dk_at dksX1_restore_0 13 rfl rfl)
theorem dX1_restore_14 : decode cX1_restore 14 = .ok (.aaload, 1) := dk_50 (dk_at dksX1_restore_0 14 rfl rfl)
theorem dX1_restore_15 : decode cX1_restore 15 = .ok (.ifnonnull 5, 3) := dk_199 0 5 (dk_at dksX1_restore_0 15 rfl rfl)
theorem dX1_restore_18 : decode cX1_restore 18 = .ok (.iconst 0, 1) := dk_3 (dk_at dksX1_restore_0 18 rfl rfl)
theorem dX1_restore_19 : decode cX1_restore 19 = .ok (.ireturn, 1) := dk_172 (dk_at dksX1_restore_0 19 rfl rfl)
theorem dX1_restore_20 : decode cX1_restore 20 = .ok (.aload_n 0, 1) := dk_42 (dk_at dksX1_restore_0 20 rfl rfl)
theorem dX1_restore_21 : decode cX1_restore 21 = .ok (.getfield 96, 3) := dk_180 0 96 (dk_at dksX1_restore_0 21 rfl rfl)
theorem dX1_restore_24 : decode cX1_restore 24 = .ok (.aload_n 0, 1) := dk_42 (dk_at dksX1_restore_1 0 rfl rfl)
theorem dX1_restore_25 : decode cX1_restore 25 = .ok (.getfield 210, 3) := dk_180 0 210 (dk_at dksX1_restore_1 1 rfl rfl)
theorem dX1_restore_28 : decode cX1_restore 28 = .ok (.iload_n 1, 1) := dk_27 (dk_at dksX1_restore_1 4 rfl rfl)
theorem dX1_restore_29 : decode cX1_restore 29 = .ok (.aaload, 1) := dk_50 (dk_at dksX1_restore_1 5 rfl rfl)
theorem dX1_restore_30 : decode cX1_restore 30 = .ok (.invokevirtual 526, 3) := dk_182 2 14 (dk_at dksX1_restore_1 6 rfl rfl)
theorem dX1_restore_33 : decode cX1_restore 33 = .ok (.iconst 1, 1) := dk_4 (dk_at dksX1_restore_1 9 rfl rfl)
theorem dX1_restore_34 : decode cX1_restore 34 = .ok (.ireturn, 1) := dk_172 (dk_at dksX1_restore_1 10 rfl rfl)
abbrev cX1_count : ByteArray := prog_1_method_58_code
def yX1_count : MethodName := ⟨RX1, "count", "(I)I"⟩
def dkwX1_count_5 : List UInt8 := [180, 2, 19, 172, 2, 172]
abbrev dktX1_count_5 : List UInt8 := dkwX1_count_5 ++ []
def dkwX1_count_4 : List UInt8 := [180, 0, 96, 180, 0, 248, 180, 1, 9, 172, 42, 180, 0, 214, 172, 42, 180, 0, 96, 180, 0, 241]
abbrev dktX1_count_4 : List UInt8 := dkwX1_count_4 ++ dktX1_count_5
def dkwX1_count_3 : List UInt8 := [180, 0, 96, 180, 0, 241, 180, 1, 211, 172, 42, 180, 0, 96, 180, 0, 241, 180, 2, 17, 172, 42]
abbrev dktX1_count_3 : List UInt8 := dkwX1_count_3 ++ dktX1_count_4
def dkwX1_count_2 : List UInt8 := [42, 180, 0, 96, 180, 0, 241, 180, 1, 12, 172, 42, 180, 0, 96, 180, 0, 241, 180, 1, 231, 172, 42]
abbrev dktX1_count_2 : List UInt8 := dkwX1_count_2 ++ dktX1_count_3
def dkwX1_count_1 : List UInt8 := [170, 0, 0, 0, 0, 0, 114, 0, 0, 0, 0, 0, 0, 0, 6, 0, 0, 0, 43, 0, 0, 0, 54, 0, 0, 0, 65, 0, 0, 0, 76, 0, 0, 0, 87, 0, 0, 0, 98, 0, 0, 0, 103]
abbrev dktX1_count_1 : List UInt8 := dkwX1_count_1 ++ dktX1_count_2
def dkwX1_count_0 : List UInt8 := [27]
abbrev dktX1_count_0 : List UInt8 := dkwX1_count_0 ++ dktX1_count_1
theorem dksX1_count_0 : cX1_count.data.toList.drop 0 = dktX1_count_0 := by decide +kernel
theorem dksX1_count_1 : cX1_count.data.toList.drop 1 = dktX1_count_1 := dk_seg dksX1_count_0 1 rfl rfl
theorem dksX1_count_2 : cX1_count.data.toList.drop 44 = dktX1_count_2 := dk_seg dksX1_count_1 43 rfl rfl
theorem dksX1_count_3 : cX1_count.data.toList.drop 67 = dktX1_count_3 := dk_seg dksX1_count_2 23 rfl rfl
theorem dksX1_count_4 : cX1_count.data.toList.drop 89 = dktX1_count_4 := dk_seg dksX1_count_3 22 rfl rfl
theorem dksX1_count_5 : cX1_count.data.toList.drop 111 = dktX1_count_5 := dk_seg dksX1_count_4 22 rfl rfl
theorem dX1_count_0 : decode cX1_count 0 = .ok (.iload_n 1, 1) := dk_27 (dk_at dksX1_count_0 0 rfl rfl)
theorem dX1_count_1 : decode cX1_count 1 = .ok (.tableswitch 114 0 6 #[43, 54, 65, 76, 87, 98, 103], 43) := by decide +kernel
theorem dX1_count_44 : decode cX1_count 44 = .ok (.aload_n 0, 1) := dk_42 (dk_at dksX1_count_2 0 rfl rfl)
theorem dX1_count_45 : decode cX1_count 45 = .ok (.getfield 96, 3) := dk_180 0 96 (dk_at dksX1_count_2 1 rfl rfl)
theorem dX1_count_48 : decode cX1_count 48 = .ok (.getfield 241, 3) := dk_180 0 241 (dk_at dksX1_count_2 4 rfl rfl)
theorem dX1_count_51 : decode cX1_count 51 = .ok (.getfield 268, 3) := dk_180 1 12 (dk_at dksX1_count_2 7 rfl rfl)
theorem dX1_count_54 : decode cX1_count 54 = .ok (.ireturn, 1) := dk_172 (dk_at dksX1_count_2 10 rfl rfl)
theorem dX1_count_55 : decode cX1_count 55 = .ok (.aload_n 0, 1) := dk_42 (dk_at dksX1_count_2 11 rfl rfl)
theorem dX1_count_56 : decode cX1_count 56 = .ok (.getfield 96, 3) := dk_180 0 96 (dk_at dksX1_count_2 12 rfl rfl)
theorem dX1_count_59 : decode cX1_count 59 = .ok (.getfield 241, 3) := dk_180 0 241 (dk_at dksX1_count_2 15 rfl rfl)
theorem dX1_count_62 : decode cX1_count 62 = .ok (.getfield 487, 3) := dk_180 1 231 (dk_at dksX1_count_2 18 rfl rfl)
theorem dX1_count_65 : decode cX1_count 65 = .ok (.ireturn, 1) := dk_172 (dk_at dksX1_count_2 21 rfl rfl)
theorem dX1_count_66 : decode cX1_count 66 = .ok (.aload_n 0, 1) := dk_42 (dk_at dksX1_count_2 22 rfl rfl)
theorem dX1_count_67 : decode cX1_count 67 = .ok (.getfield 96, 3) := dk_180 0 96 (dk_at dksX1_count_3 0 rfl rfl)
theorem dX1_count_70 : decode cX1_count 70 = .ok (.getfield 241, 3) := dk_180 0 241 (dk_at dksX1_count_3 3 rfl rfl)
theorem dX1_count_73 : decode cX1_count 73 = .ok (.getfield 467, 3) := dk_180 1 211 (dk_at dksX1_count_3 6 rfl rfl)
theorem dX1_count_76 : decode cX1_count 76 = .ok (.ireturn, 1) := dk_172 (dk_at dksX1_count_3 9 rfl rfl)
theorem dX1_count_77 : decode cX1_count 77 = .ok (.aload_n 0, 1) := dk_42 (dk_at dksX1_count_3 10 rfl rfl)
theorem dX1_count_78 : decode cX1_count 78 = .ok (.getfield 96, 3) := dk_180 0 96 (dk_at dksX1_count_3 11 rfl rfl)
theorem dX1_count_81 : decode cX1_count 81 = .ok (.getfield 241, 3) := dk_180 0 241 (dk_at dksX1_count_3 14 rfl rfl)
theorem dX1_count_84 : decode cX1_count 84 = .ok (.getfield 529, 3) := dk_180 2 17 (dk_at dksX1_count_3 17 rfl rfl)
theorem dX1_count_87 : decode cX1_count 87 = .ok (.ireturn, 1) := dk_172 (dk_at dksX1_count_3 20 rfl rfl)
theorem dX1_count_88 : decode cX1_count 88 = .ok (.aload_n 0, 1) := dk_42 (dk_at dksX1_count_3 21 rfl rfl)
theorem dX1_count_89 : decode cX1_count 89 = .ok (.getfield 96, 3) := dk_180 0 96 (dk_at dksX1_count_4 0 rfl rfl)
theorem dX1_count_92 : decode cX1_count 92 = .ok (.getfield 248, 3) := dk_180 0 248 (dk_at dksX1_count_4 3 rfl rfl)
theorem dX1_count_95 : decode cX1_count 95 = .ok (.getfield 265, 3) := dk_180 1 9 (dk_at dksX1_count_4 6 rfl rfl)
theorem dX1_count_98 : decode cX1_count 98 = .ok (.ireturn, 1) := dk_172 (dk_at dksX1_count_4 9 rfl rfl)
theorem dX1_count_99 : decode cX1_count 99 = .ok (.aload_n 0, 1) := dk_42 (dk_at dksX1_count_4 10 rfl rfl)
theorem dX1_count_100 : decode cX1_count 100 = .ok (.getfield 214, 3) := dk_180 0 214 (dk_at dksX1_count_4 11 rfl rfl)
theorem dX1_count_103 : decode cX1_count 103 = .ok (.ireturn, 1) := dk_172 (dk_at dksX1_count_4 14 rfl rfl)
theorem dX1_count_104 : decode cX1_count 104 = .ok (.aload_n 0, 1) := dk_42 (dk_at dksX1_count_4 15 rfl rfl)
theorem dX1_count_105 : decode cX1_count 105 = .ok (.getfield 96, 3) := dk_180 0 96 (dk_at dksX1_count_4 16 rfl rfl)
theorem dX1_count_108 : decode cX1_count 108 = .ok (.getfield 241, 3) := dk_180 0 241 (dk_at dksX1_count_4 19 rfl rfl)
theorem dX1_count_111 : decode cX1_count 111 = .ok (.getfield 531, 3) := dk_180 2 19 (dk_at dksX1_count_5 0 rfl rfl)
theorem dX1_count_114 : decode cX1_count 114 = .ok (.ireturn, 1) := dk_172 (dk_at dksX1_count_5 3 rfl rfl)
theorem dX1_count_115 : decode cX1_count 115 = .ok (.iconst (-1), 1) := dk_2 (dk_at dksX1_count_5 4 rfl rfl)
theorem dX1_count_116 : decode cX1_count 116 = .ok (.ireturn, 1) := dk_172 (dk_at dksX1_count_5 5 rfl rfl)
abbrev cX1_man : ByteArray := prog_1_method_14_code
def yX1_man : MethodName := ⟨RX1, "man", "(II)I"⟩
def dkwX1_man_2 : List UInt8 := [167, 0, 19, 28, 4, 160, 0, 10, 45, 180, 1, 36, 167, 0, 7, 45, 180, 1, 39, 172]
abbrev dktX1_man_2 : List UInt8 := dkwX1_man_2 ++ []
def dkwX1_man_1 : List UInt8 := [184, 1, 23, 42, 180, 0, 96, 180, 0, 241, 180, 1, 27, 27, 50, 78, 28, 154, 0, 10, 45, 180, 1, 31]
abbrev dktX1_man_1 : List UInt8 := dkwX1_man_1 ++ dktX1_man_2
def dkwX1_man_0 : List UInt8 := [42, 27, 182, 1, 19, 153, 0, 16, 28, 3, 5, 184, 1, 15, 153, 0, 7, 4, 167, 0, 4, 3]
abbrev dktX1_man_0 : List UInt8 := dkwX1_man_0 ++ dktX1_man_1
theorem dksX1_man_0 : cX1_man.data.toList.drop 0 = dktX1_man_0 := by decide +kernel
theorem dksX1_man_1 : cX1_man.data.toList.drop 22 = dktX1_man_1 := dk_seg dksX1_man_0 22 rfl rfl
theorem dksX1_man_2 : cX1_man.data.toList.drop 46 = dktX1_man_2 := dk_seg dksX1_man_1 24 rfl rfl
theorem dX1_man_0 : decode cX1_man 0 = .ok (.aload_n 0, 1) := dk_42 (dk_at dksX1_man_0 0 rfl rfl)
theorem dX1_man_1 : decode cX1_man 1 = .ok (.iload_n 1, 1) := dk_27 (dk_at dksX1_man_0 1 rfl rfl)
theorem dX1_man_2 : decode cX1_man 2 = .ok (.invokevirtual 275, 3) := dk_182 1 19 (dk_at dksX1_man_0 2 rfl rfl)
theorem dX1_man_5 : decode cX1_man 5 = .ok (.ifCond .eq 16, 3) := dk_153 0 16 (dk_at dksX1_man_0 5 rfl rfl)
theorem dX1_man_8 : decode cX1_man 8 = .ok (.iload_n 2, 1) := dk_28 (dk_at dksX1_man_0 8 rfl rfl)
theorem dX1_man_9 : decode cX1_man 9 = .ok (.iconst 0, 1) := dk_3 (dk_at dksX1_man_0 9 rfl rfl)
theorem dX1_man_10 : decode cX1_man 10 = .ok (.iconst 2, 1) := dk_5 (dk_at dksX1_man_0 10 rfl rfl)
theorem dX1_man_11 : decode cX1_man 11 = .ok (.invokestatic 271, 3) := dk_184 1 15 (dk_at dksX1_man_0 11 rfl rfl)
theorem dX1_man_14 : decode cX1_man 14 = .ok (.ifCond .eq 7, 3) := dk_153 0 7 (dk_at dksX1_man_0 14 rfl rfl)
theorem dX1_man_17 : decode cX1_man 17 = .ok (.iconst 1, 1) := dk_4 (dk_at dksX1_man_0 17 rfl rfl)
theorem dX1_man_18 : decode cX1_man 18 = .ok (.goto 4, 3) := dk_167 0 4 (dk_at dksX1_man_0 18 rfl rfl)
theorem dX1_man_21 : decode cX1_man 21 = .ok (.iconst 0, 1) := dk_3 (dk_at dksX1_man_0 21 rfl rfl)
theorem dX1_man_22 : decode cX1_man 22 = .ok (.invokestatic 279, 3) := dk_184 1 23 (dk_at dksX1_man_1 0 rfl rfl)
theorem dX1_man_25 : decode cX1_man 25 = .ok (.aload_n 0, 1) := dk_42 (dk_at dksX1_man_1 3 rfl rfl)
theorem dX1_man_26 : decode cX1_man 26 = .ok (.getfield 96, 3) := dk_180 0 96 (dk_at dksX1_man_1 4 rfl rfl)
theorem dX1_man_29 : decode cX1_man 29 = .ok (.getfield 241, 3) := dk_180 0 241 (dk_at dksX1_man_1 7 rfl rfl)
theorem dX1_man_32 : decode cX1_man 32 = .ok (.getfield 283, 3) := dk_180 1 27 (dk_at dksX1_man_1 10 rfl rfl)
theorem dX1_man_35 : decode cX1_man 35 = .ok (.iload_n 1, 1) := dk_27 (dk_at dksX1_man_1 13 rfl rfl)
theorem dX1_man_36 : decode cX1_man 36 = .ok (.aaload, 1) := dk_50 (dk_at dksX1_man_1 14 rfl rfl)
theorem dX1_man_37 : decode cX1_man 37 = .ok (.astore_n 3, 1) := dk_78 (dk_at dksX1_man_1 15 rfl rfl)
theorem dX1_man_38 : decode cX1_man 38 = .ok (.iload_n 2, 1) := dk_28 (dk_at dksX1_man_1 16 rfl rfl)
theorem dX1_man_39 : decode cX1_man 39 = .ok (.ifCond .ne 10, 3) := dk_154 0 10 (dk_at dksX1_man_1 17 rfl rfl)
theorem dX1_man_42 : decode cX1_man 42 = .ok (.aload_n 3, 1) := dk_45 (dk_at dksX1_man_1 20 rfl rfl)
theorem dX1_man_43 : decode cX1_man 43 = .ok (.getfield 287, 3) := dk_180 1 31 (dk_at dksX1_man_1 21 rfl rfl)
theorem dX1_man_46 : decode cX1_man 46 = .ok (.goto 19, 3) := dk_167 0 19 (dk_at dksX1_man_2 0 rfl rfl)
theorem dX1_man_49 : decode cX1_man 49 = .ok (.iload_n 2, 1) := dk_28 (dk_at dksX1_man_2 3 rfl rfl)
theorem dX1_man_50 : decode cX1_man 50 = .ok (.iconst 1, 1) := dk_4 (dk_at dksX1_man_2 4 rfl rfl)
theorem dX1_man_51 : decode cX1_man 51 = .ok (.if_icmp .ne 10, 3) := dk_160 0 10 (dk_at dksX1_man_2 5 rfl rfl)
theorem dX1_man_54 : decode cX1_man 54 = .ok (.aload_n 3, 1) := dk_45 (dk_at dksX1_man_2 8 rfl rfl)
theorem dX1_man_55 : decode cX1_man 55 = .ok (.getfield 292, 3) := dk_180 1 36 (dk_at dksX1_man_2 9 rfl rfl)
theorem dX1_man_58 : decode cX1_man 58 = .ok (.goto 7, 3) := dk_167 0 7 (dk_at dksX1_man_2 12 rfl rfl)
theorem dX1_man_61 : decode cX1_man 61 = .ok (.aload_n 3, 1) := dk_45 (dk_at dksX1_man_2 15 rfl rfl)
theorem dX1_man_62 : decode cX1_man 62 = .ok (.getfield 295, 3) := dk_180 1 39 (dk_at dksX1_man_2 16 rfl rfl)
theorem dX1_man_65 : decode cX1_man 65 = .ok (.ireturn, 1) := dk_172 (dk_at dksX1_man_2 19 rfl rfl)
abbrev cX1_must : ByteArray := prog_1_method_8_code
def yX1_must : MethodName := ⟨RX1, "must", "(Z)V"⟩
def dkwX1_must_0 : List UInt8 := [26, 154, 0, 11, 187, 0, 225, 89, 183, 0, 227, 191, 177]
abbrev dktX1_must_0 : List UInt8 := dkwX1_must_0 ++ []
theorem dksX1_must_0 : cX1_must.data.toList.drop 0 = dktX1_must_0 := by decide +kernel
theorem dX1_must_0 : decode cX1_must 0 = .ok (.iload_n 0, 1) := dk_26 (dk_at dksX1_must_0 0 rfl rfl)
theorem dX1_must_1 : decode cX1_must 1 = .ok (.ifCond .ne 11, 3) := dk_154 0 11 (dk_at dksX1_must_0 1 rfl rfl)
theorem dX1_must_4 : decode cX1_must 4 = .ok (.new 225, 3) := dk_187 0 225 (dk_at dksX1_must_0 4 rfl rfl)
theorem dX1_must_7 : decode cX1_must 7 = .ok (.dup, 1) := dk_89 (dk_at dksX1_must_0 7 rfl rfl)
theorem dX1_must_8 : decode cX1_must 8 = .ok (.invokespecial 227, 3) := dk_183 0 227 (dk_at dksX1_must_0 8 rfl rfl)
theorem dX1_must_11 : decode cX1_must 11 = .ok (.athrow, 1) := dk_191 (dk_at dksX1_must_0 11 rfl rfl)
theorem dX1_must_12 : decode cX1_must 12 = .ok (.return_, 1) := dk_177 (dk_at dksX1_must_0 12 rfl rfl)
abbrev cX1_cell : ByteArray := prog_1_method_15_code
def yX1_cell : MethodName := ⟨RX1, "cell", "(III)I"⟩
def dkwX1_cell_3 : List UInt8 := [51, 153, 0, 7, 4, 167, 0, 4, 3, 172]
abbrev dktX1_cell_3 : List UInt8 := dkwX1_cell_3 ++ []
def dkwX1_cell_2 : List UInt8 := [28, 104, 27, 96, 46, 167, 0, 28, 42, 180, 0, 96, 180, 0, 241, 180, 1, 49, 16, 8, 28, 104, 27, 96]
abbrev dktX1_cell_2 : List UInt8 := dkwX1_cell_2 ++ dktX1_cell_3
def dkwX1_cell_1 : List UInt8 := [4, 167, 0, 4, 3, 184, 1, 23, 29, 154, 0, 23, 42, 180, 0, 96, 180, 0, 241, 180, 1, 46, 16, 8]
abbrev dktX1_cell_1 : List UInt8 := dkwX1_cell_1 ++ dktX1_cell_2
def dkwX1_cell_0 : List UInt8 := [42, 180, 0, 96, 180, 0, 241, 27, 28, 182, 1, 42, 153, 0, 16, 29, 3, 4, 184, 1, 15, 153, 0, 7]
abbrev dktX1_cell_0 : List UInt8 := dkwX1_cell_0 ++ dktX1_cell_1
theorem dksX1_cell_0 : cX1_cell.data.toList.drop 0 = dktX1_cell_0 := by decide +kernel
theorem dksX1_cell_1 : cX1_cell.data.toList.drop 24 = dktX1_cell_1 := dk_seg dksX1_cell_0 24 rfl rfl
theorem dksX1_cell_2 : cX1_cell.data.toList.drop 48 = dktX1_cell_2 := dk_seg dksX1_cell_1 24 rfl rfl
theorem dksX1_cell_3 : cX1_cell.data.toList.drop 72 = dktX1_cell_3 := dk_seg dksX1_cell_2 24 rfl rfl
theorem dX1_cell_0 : decode cX1_cell 0 = .ok (.aload_n 0, 1) := dk_42 (dk_at dksX1_cell_0 0 rfl rfl)
theorem dX1_cell_1 : decode cX1_cell 1 = .ok (.getfield 96, 3) := dk_180 0 96 (dk_at dksX1_cell_0 1 rfl rfl)
theorem dX1_cell_4 : decode cX1_cell 4 = .ok (.getfield 241, 3) := dk_180 0 241 (dk_at dksX1_cell_0 4 rfl rfl)
theorem dX1_cell_7 : decode cX1_cell 7 = .ok (.iload_n 1, 1) := dk_27 (dk_at dksX1_cell_0 7 rfl rfl)
theorem dX1_cell_8 : decode cX1_cell 8 = .ok (.iload_n 2, 1) := dk_28 (dk_at dksX1_cell_0 8 rfl rfl)
theorem dX1_cell_9 : decode cX1_cell 9 = .ok (.invokevirtual 298, 3) := dk_182 1 42 (dk_at dksX1_cell_0 9 rfl rfl)
theorem dX1_cell_12 : decode cX1_cell 12 = .ok (.ifCond .eq 16, 3) := dk_153 0 16 (dk_at dksX1_cell_0 12 rfl rfl)
theorem dX1_cell_15 : decode cX1_cell 15 = .ok (.iload_n 3, 1) := dk_29 (dk_at dksX1_cell_0 15 rfl rfl)
theorem dX1_cell_16 : decode cX1_cell 16 = .ok (.iconst 0, 1) := dk_3 (dk_at dksX1_cell_0 16 rfl rfl)
theorem dX1_cell_17 : decode cX1_cell 17 = .ok (.iconst 1, 1) := dk_4 (dk_at dksX1_cell_0 17 rfl rfl)
theorem dX1_cell_18 : decode cX1_cell 18 = .ok (.invokestatic 271, 3) := dk_184 1 15 (dk_at dksX1_cell_0 18 rfl rfl)
theorem dX1_cell_21 : decode cX1_cell 21 = .ok (.ifCond .eq 7, 3) := dk_153 0 7 (dk_at dksX1_cell_0 21 rfl rfl)
theorem dX1_cell_24 : decode cX1_cell 24 = .ok (.iconst 1, 1) := dk_4 (dk_at dksX1_cell_1 0 rfl rfl)
theorem dX1_cell_25 : decode cX1_cell 25 = .ok (.goto 4, 3) := dk_167 0 4 (dk_at dksX1_cell_1 1 rfl rfl)
theorem dX1_cell_28 : decode cX1_cell 28 = .ok (.iconst 0, 1) := dk_3 (dk_at dksX1_cell_1 4 rfl rfl)
theorem dX1_cell_29 : decode cX1_cell 29 = .ok (.invokestatic 279, 3) := dk_184 1 23 (dk_at dksX1_cell_1 5 rfl rfl)
theorem dX1_cell_32 : decode cX1_cell 32 = .ok (.iload_n 3, 1) := dk_29 (dk_at dksX1_cell_1 8 rfl rfl)
theorem dX1_cell_33 : decode cX1_cell 33 = .ok (.ifCond .ne 23, 3) := dk_154 0 23 (dk_at dksX1_cell_1 9 rfl rfl)
theorem dX1_cell_36 : decode cX1_cell 36 = .ok (.aload_n 0, 1) := dk_42 (dk_at dksX1_cell_1 12 rfl rfl)
theorem dX1_cell_37 : decode cX1_cell 37 = .ok (.getfield 96, 3) := dk_180 0 96 (dk_at dksX1_cell_1 13 rfl rfl)
theorem dX1_cell_40 : decode cX1_cell 40 = .ok (.getfield 241, 3) := dk_180 0 241 (dk_at dksX1_cell_1 16 rfl rfl)
theorem dX1_cell_43 : decode cX1_cell 43 = .ok (.getfield 302, 3) := dk_180 1 46 (dk_at dksX1_cell_1 19 rfl rfl)
theorem dX1_cell_46 : decode cX1_cell 46 = .ok (.bipush 8, 2) := dk_16 8 (dk_at dksX1_cell_1 22 rfl rfl)
theorem dX1_cell_48 : decode cX1_cell 48 = .ok (.iload_n 2, 1) := dk_28 (dk_at dksX1_cell_2 0 rfl rfl)
theorem dX1_cell_49 : decode cX1_cell 49 = .ok (.imul, 1) := dk_104 (dk_at dksX1_cell_2 1 rfl rfl)
theorem dX1_cell_50 : decode cX1_cell 50 = .ok (.iload_n 1, 1) := dk_27 (dk_at dksX1_cell_2 2 rfl rfl)
theorem dX1_cell_51 : decode cX1_cell 51 = .ok (.iadd, 1) := dk_96 (dk_at dksX1_cell_2 3 rfl rfl)
theorem dX1_cell_52 : decode cX1_cell 52 = .ok (.iaload, 1) := dk_46 (dk_at dksX1_cell_2 4 rfl rfl)
theorem dX1_cell_53 : decode cX1_cell 53 = .ok (.goto 28, 3) := dk_167 0 28 (dk_at dksX1_cell_2 5 rfl rfl)
theorem dX1_cell_56 : decode cX1_cell 56 = .ok (.aload_n 0, 1) := dk_42 (dk_at dksX1_cell_2 8 rfl rfl)
theorem dX1_cell_57 : decode cX1_cell 57 = .ok (.getfield 96, 3) := dk_180 0 96 (dk_at dksX1_cell_2 9 rfl rfl)
theorem dX1_cell_60 : decode cX1_cell 60 = .ok (.getfield 241, 3) := dk_180 0 241 (dk_at dksX1_cell_2 12 rfl rfl)
theorem dX1_cell_63 : decode cX1_cell 63 = .ok (.getfield 305, 3) := dk_180 1 49 (dk_at dksX1_cell_2 15 rfl rfl)
theorem dX1_cell_66 : decode cX1_cell 66 = .ok (.bipush 8, 2) := dk_16 8 (dk_at dksX1_cell_2 18 rfl rfl)
theorem dX1_cell_68 : decode cX1_cell 68 = .ok (.iload_n 2, 1) := dk_28 (dk_at dksX1_cell_2 20 rfl rfl)
theorem dX1_cell_69 : decode cX1_cell 69 = .ok (.imul, 1) := dk_104 (dk_at dksX1_cell_2 21 rfl rfl)
theorem dX1_cell_70 : decode cX1_cell 70 = .ok (.iload_n 1, 1) := dk_27 (dk_at dksX1_cell_2 22 rfl rfl)
theorem dX1_cell_71 : decode cX1_cell 71 = .ok (.iadd, 1) := dk_96 (dk_at dksX1_cell_2 23 rfl rfl)
theorem dX1_cell_72 : decode cX1_cell 72 = .ok (.baload, 1) := dk_51 (dk_at dksX1_cell_3 0 rfl rfl)
theorem dX1_cell_73 : decode cX1_cell 73 = .ok (.ifCond .eq 7, 3) := dk_153 0 7 (dk_at dksX1_cell_3 1 rfl rfl)
theorem dX1_cell_76 : decode cX1_cell 76 = .ok (.iconst 1, 1) := dk_4 (dk_at dksX1_cell_3 4 rfl rfl)
theorem dX1_cell_77 : decode cX1_cell 77 = .ok (.goto 4, 3) := dk_167 0 4 (dk_at dksX1_cell_3 5 rfl rfl)
theorem dX1_cell_80 : decode cX1_cell 80 = .ok (.iconst 0, 1) := dk_3 (dk_at dksX1_cell_3 8 rfl rfl)
theorem dX1_cell_81 : decode cX1_cell 81 = .ok (.ireturn, 1) := dk_172 (dk_at dksX1_cell_3 9 rfl rfl)
abbrev cX1_cost : ByteArray := prog_1_method_30_code
def yX1_cost : MethodName := ⟨RX1, "cost", "(II)I"⟩
def dkwX1_cost_5 : List UInt8 := [180, 1, 133, 182, 1, 129, 100, 172]
abbrev dktX1_cost_5 : List UInt8 := dkwX1_cost_5 ++ []
def dkwX1_cost_4 : List UInt8 := [21, 4, 100, 42, 42, 180, 0, 135, 42, 180, 1, 52, 28, 16, 60, 27, 104, 100, 42, 180, 0, 128]
abbrev dktX1_cost_4 : List UInt8 := dkwX1_cost_4 ++ dktX1_cost_5
def dkwX1_cost_3 : List UInt8 := [182, 1, 129, 62, 42, 42, 180, 0, 135, 42, 180, 1, 52, 16, 60, 27, 104, 182, 1, 125, 54, 4, 29]
abbrev dktX1_cost_3 : List UInt8 := dkwX1_cost_3 ++ dktX1_cost_4
def dkwX1_cost_2 : List UInt8 := [182, 0, 228, 42, 42, 180, 0, 135, 42, 180, 1, 52, 28, 42, 180, 0, 96, 180, 0, 241, 180, 1, 65]
abbrev dktX1_cost_2 : List UInt8 := dkwX1_cost_2 ++ dktX1_cost_3
def dkwX1_cost_1 : List UInt8 := [42, 5, 16, 12, 42, 180, 0, 214, 182, 1, 59, 153, 0, 7, 4, 167, 0, 4, 3, 184, 1, 23, 42]
abbrev dktX1_cost_1 : List UInt8 := dkwX1_cost_1 ++ dktX1_cost_2
def dkwX1_cost_0 : List UInt8 := [27, 3, 16, 60, 184, 1, 15, 153, 0, 35, 28, 16, 60, 27, 104, 17, 14, 16, 184, 1, 15, 153, 0, 21]
abbrev dktX1_cost_0 : List UInt8 := dkwX1_cost_0 ++ dktX1_cost_1
theorem dksX1_cost_0 : cX1_cost.data.toList.drop 0 = dktX1_cost_0 := by decide +kernel
theorem dksX1_cost_1 : cX1_cost.data.toList.drop 24 = dktX1_cost_1 := dk_seg dksX1_cost_0 24 rfl rfl
theorem dksX1_cost_2 : cX1_cost.data.toList.drop 47 = dktX1_cost_2 := dk_seg dksX1_cost_1 23 rfl rfl
theorem dksX1_cost_3 : cX1_cost.data.toList.drop 70 = dktX1_cost_3 := dk_seg dksX1_cost_2 23 rfl rfl
theorem dksX1_cost_4 : cX1_cost.data.toList.drop 93 = dktX1_cost_4 := dk_seg dksX1_cost_3 23 rfl rfl
theorem dksX1_cost_5 : cX1_cost.data.toList.drop 115 = dktX1_cost_5 := dk_seg dksX1_cost_4 22 rfl rfl
theorem dX1_cost_0 : decode cX1_cost 0 = .ok (.iload_n 1, 1) := dk_27 (dk_at dksX1_cost_0 0 rfl rfl)
theorem dX1_cost_1 : decode cX1_cost 1 = .ok (.iconst 0, 1) := dk_3 (dk_at dksX1_cost_0 1 rfl rfl)
theorem dX1_cost_2 : decode cX1_cost 2 = .ok (.bipush 60, 2) := dk_16 60 (dk_at dksX1_cost_0 2 rfl rfl)
theorem dX1_cost_4 : decode cX1_cost 4 = .ok (.invokestatic 271, 3) := dk_184 1 15 (dk_at dksX1_cost_0 4 rfl rfl)
theorem dX1_cost_7 : decode cX1_cost 7 = .ok (.ifCond .eq 35, 3) := dk_153 0 35 (dk_at dksX1_cost_0 7 rfl rfl)
theorem dX1_cost_10 : decode cX1_cost 10 = .ok (.iload_n 2, 1) := dk_28 (dk_at dksX1_cost_0 10 rfl rfl)
theorem dX1_cost_11 : decode cX1_cost 11 = .ok (.bipush 60, 2) := dk_16 60 (dk_at dksX1_cost_0 11 rfl rfl)
theorem dX1_cost_13 : decode cX1_cost 13 = .ok (.iload_n 1, 1) := dk_27 (dk_at dksX1_cost_0 13 rfl rfl)
theorem dX1_cost_14 : decode cX1_cost 14 = .ok (.imul, 1) := dk_104 (dk_at dksX1_cost_0 14 rfl rfl)
theorem dX1_cost_15 : decode cX1_cost 15 = .ok (.sipush 3600, 3) := dk_17 14 16 (dk_at dksX1_cost_0 15 rfl rfl)
theorem dX1_cost_18 : decode cX1_cost 18 = .ok (.invokestatic 271, 3) := dk_184 1 15 (dk_at dksX1_cost_0 18 rfl rfl)
theorem dX1_cost_21 : decode cX1_cost 21 = .ok (.ifCond .eq 21, 3) := dk_153 0 21 (dk_at dksX1_cost_0 21 rfl rfl)
theorem dX1_cost_24 : decode cX1_cost 24 = .ok (.aload_n 0, 1) := dk_42 (dk_at dksX1_cost_1 0 rfl rfl)
theorem dX1_cost_25 : decode cX1_cost 25 = .ok (.iconst 2, 1) := dk_5 (dk_at dksX1_cost_1 1 rfl rfl)
theorem dX1_cost_26 : decode cX1_cost 26 = .ok (.bipush 12, 2) := dk_16 12 (dk_at dksX1_cost_1 2 rfl rfl)
theorem dX1_cost_28 : decode cX1_cost 28 = .ok (.aload_n 0, 1) := dk_42 (dk_at dksX1_cost_1 4 rfl rfl)
theorem dX1_cost_29 : decode cX1_cost 29 = .ok (.getfield 214, 3) := dk_180 0 214 (dk_at dksX1_cost_1 5 rfl rfl)
theorem dX1_cost_32 : decode cX1_cost 32 = .ok (.invokevirtual 315, 3) := dk_182 1 59 (dk_at dksX1_cost_1 8 rfl rfl)
theorem dX1_cost_35 : decode cX1_cost 35 = .ok (.ifCond .eq 7, 3) := dk_153 0 7 (dk_at dksX1_cost_1 11 rfl rfl)
theorem dX1_cost_38 : decode cX1_cost 38 = .ok (.iconst 1, 1) := dk_4 (dk_at dksX1_cost_1 14 rfl rfl)
theorem dX1_cost_39 : decode cX1_cost 39 = .ok (.goto 4, 3) := dk_167 0 4 (dk_at dksX1_cost_1 15 rfl rfl)
theorem dX1_cost_42 : decode cX1_cost 42 = .ok (.iconst 0, 1) := dk_3 (dk_at dksX1_cost_1 18 rfl rfl)
theorem dX1_cost_43 : decode cX1_cost 43 = .ok (.invokestatic 279, 3) := dk_184 1 23 (dk_at dksX1_cost_1 19 rfl rfl)
theorem dX1_cost_46 : decode cX1_cost 46 = .ok (.aload_n 0, 1) := dk_42 (dk_at dksX1_cost_1 22 rfl rfl)
theorem dX1_cost_47 : decode cX1_cost 47 = .ok (.invokevirtual 228, 3) := dk_182 0 228 (dk_at dksX1_cost_2 0 rfl rfl)
theorem dX1_cost_50 : decode cX1_cost 50 = .ok (.aload_n 0, 1) := dk_42 (dk_at dksX1_cost_2 3 rfl rfl)
theorem dX1_cost_51 : decode cX1_cost 51 = .ok (.aload_n 0, 1) := dk_42 (dk_at dksX1_cost_2 4 rfl rfl)
theorem dX1_cost_52 : decode cX1_cost 52 = .ok (.getfield 135, 3) := dk_180 0 135 (dk_at dksX1_cost_2 5 rfl rfl)
theorem dX1_cost_55 : decode cX1_cost 55 = .ok (.aload_n 0, 1) := dk_42 (dk_at dksX1_cost_2 8 rfl rfl)
theorem dX1_cost_56 : decode cX1_cost 56 = .ok (.getfield 308, 3) := dk_180 1 52 (dk_at dksX1_cost_2 9 rfl rfl)
theorem dX1_cost_59 : decode cX1_cost 59 = .ok (.iload_n 2, 1) := dk_28 (dk_at dksX1_cost_2 12 rfl rfl)
theorem dX1_cost_60 : decode cX1_cost 60 = .ok (.aload_n 0, 1) := dk_42 (dk_at dksX1_cost_2 13 rfl rfl)
theorem dX1_cost_61 : decode cX1_cost 61 = .ok (.getfield 96, 3) := dk_180 0 96 (dk_at dksX1_cost_2 14 rfl rfl)
theorem dX1_cost_64 : decode cX1_cost 64 = .ok (.getfield 241, 3) := dk_180 0 241 (dk_at dksX1_cost_2 17 rfl rfl)
theorem dX1_cost_67 : decode cX1_cost 67 = .ok (.getfield 321, 3) := dk_180 1 65 (dk_at dksX1_cost_2 20 rfl rfl)
theorem dX1_cost_70 : decode cX1_cost 70 = .ok (.invokevirtual 385, 3) := dk_182 1 129 (dk_at dksX1_cost_3 0 rfl rfl)
theorem dX1_cost_73 : decode cX1_cost 73 = .ok (.istore_n 3, 1) := dk_62 (dk_at dksX1_cost_3 3 rfl rfl)
theorem dX1_cost_74 : decode cX1_cost 74 = .ok (.aload_n 0, 1) := dk_42 (dk_at dksX1_cost_3 4 rfl rfl)
theorem dX1_cost_75 : decode cX1_cost 75 = .ok (.aload_n 0, 1) := dk_42 (dk_at dksX1_cost_3 5 rfl rfl)
theorem dX1_cost_76 : decode cX1_cost 76 = .ok (.getfield 135, 3) := dk_180 0 135 (dk_at dksX1_cost_3 6 rfl rfl)
theorem dX1_cost_79 : decode cX1_cost 79 = .ok (.aload_n 0, 1) := dk_42 (dk_at dksX1_cost_3 9 rfl rfl)
theorem dX1_cost_80 : decode cX1_cost 80 = .ok (.getfield 308, 3) := dk_180 1 52 (dk_at dksX1_cost_3 10 rfl rfl)
theorem dX1_cost_83 : decode cX1_cost 83 = .ok (.bipush 60, 2) := dk_16 60 (dk_at dksX1_cost_3 13 rfl rfl)
theorem dX1_cost_85 : decode cX1_cost 85 = .ok (.iload_n 1, 1) := dk_27 (dk_at dksX1_cost_3 15 rfl rfl)
theorem dX1_cost_86 : decode cX1_cost 86 = .ok (.imul, 1) := dk_104 (dk_at dksX1_cost_3 16 rfl rfl)
theorem dX1_cost_87 : decode cX1_cost 87 = .ok (.invokevirtual 381, 3) := dk_182 1 125 (dk_at dksX1_cost_3 17 rfl rfl)
theorem dX1_cost_90 : decode cX1_cost 90 = .ok (.istore 4, 2) := dk_54 4 (dk_at dksX1_cost_3 20 rfl rfl)
theorem dX1_cost_92 : decode cX1_cost 92 = .ok (.iload_n 3, 1) := dk_29 (dk_at dksX1_cost_3 22 rfl rfl)
theorem dX1_cost_93 : decode cX1_cost 93 = .ok (.iload 4, 2) := dk_21 4 (dk_at dksX1_cost_4 0 rfl rfl)
theorem dX1_cost_95 : decode cX1_cost 95 = .ok (.isub, 1) := dk_100 (dk_at dksX1_cost_4 2 rfl rfl)
theorem dX1_cost_96 : decode cX1_cost 96 = .ok (.aload_n 0, 1) := dk_42 (dk_at dksX1_cost_4 3 rfl rfl)
theorem dX1_cost_97 : decode cX1_cost 97 = .ok (.aload_n 0, 1) := dk_42 (dk_at dksX1_cost_4 4 rfl rfl)
theorem dX1_cost_98 : decode cX1_cost 98 = .ok (.getfield 135, 3) := dk_180 0 135 (dk_at dksX1_cost_4 5 rfl rfl)
theorem dX1_cost_101 : decode cX1_cost 101 = .ok (.aload_n 0, 1) := dk_42 (dk_at dksX1_cost_4 8 rfl rfl)
theorem dX1_cost_102 : decode cX1_cost 102 = .ok (.getfield 308, 3) := dk_180 1 52 (dk_at dksX1_cost_4 9 rfl rfl)
theorem dX1_cost_105 : decode cX1_cost 105 = .ok (.iload_n 2, 1) := dk_28 (dk_at dksX1_cost_4 12 rfl rfl)
theorem dX1_cost_106 : decode cX1_cost 106 = .ok (.bipush 60, 2) := dk_16 60 (dk_at dksX1_cost_4 13 rfl rfl)
theorem dX1_cost_108 : decode cX1_cost 108 = .ok (.iload_n 1, 1) := dk_27 (dk_at dksX1_cost_4 15 rfl rfl)
theorem dX1_cost_109 : decode cX1_cost 109 = .ok (.imul, 1) := dk_104 (dk_at dksX1_cost_4 16 rfl rfl)
theorem dX1_cost_110 : decode cX1_cost 110 = .ok (.isub, 1) := dk_100 (dk_at dksX1_cost_4 17 rfl rfl)
theorem dX1_cost_111 : decode cX1_cost 111 = .ok (.aload_n 0, 1) := dk_42 (dk_at dksX1_cost_4 18 rfl rfl)
theorem dX1_cost_112 : decode cX1_cost 112 = .ok (.getfield 128, 3) := dk_180 0 128 (dk_at dksX1_cost_4 19 rfl rfl)
theorem dX1_cost_115 : decode cX1_cost 115 = .ok (.getfield 389, 3) := dk_180 1 133 (dk_at dksX1_cost_5 0 rfl rfl)
theorem dX1_cost_118 : decode cX1_cost 118 = .ok (.invokevirtual 385, 3) := dk_182 1 129 (dk_at dksX1_cost_5 3 rfl rfl)
theorem dX1_cost_121 : decode cX1_cost 121 = .ok (.isub, 1) := dk_100 (dk_at dksX1_cost_5 6 rfl rfl)
theorem dX1_cost_122 : decode cX1_cost 122 = .ok (.ireturn, 1) := dk_172 (dk_at dksX1_cost_5 7 rfl rfl)
theorem q103 : (Jvm.Cond.initialized "PailRow") ∈ lw_all := lw_g (lw_at lw_m1 1 rfl) rfl
theorem q136 : (Jvm.Cond.instantiable "PailRow" (52 : Nat)) ∈ lw_all := lw_g (lw_at lw_m1 34 rfl) rfl
theorem q138 : (Jvm.Cond.instanceMethod ({ cls := "PailRow", name := "<init>", desc := "()V" } : Jvm.MethodName)) ∈ lw_all := lw_g (lw_at lw_m1 36 rfl) rfl
theorem q139 : (Jvm.Cond.code ({ cls := "PailRow", name := "<init>", desc := "()V" } : Jvm.MethodName) prog_1_method_1_code (1 : Nat) (Option.none : Option Jvm.ClassFile.FieldType)) ∈ lw_all := lw_g (lw_at lw_m1 37 rfl) rfl
theorem q140 : (Jvm.Cond.methodLink "PailRow" (1 : Nat) ({ cls := "java/lang/Object", name := "<init>", desc := "()V" } : Jvm.MethodName)) ∈ lw_all := lw_g (lw_at lw_m1 38 rfl) rfl
theorem q143 : (Jvm.Cond.classLink "PailRow" (13 : Nat) "PailRow$Fault") ∈ lw_all := lw_g (lw_at lw_m1 41 rfl) rfl
theorem q181 : (Jvm.Cond.methodLink "PailRow" (15 : Nat) ({ cls := "PailRow$Fault", name := "<init>", desc := "()V" } : Jvm.MethodName)) ∈ lw_all := lw_g (lw_at lw_m1 79 rfl) rfl
theorem q190 : (Jvm.Cond.fieldLink "PailRow" (256 : Nat) "PailRow$Fault" "kind" "I") ∈ lw_all := lw_g (lw_at lw_m1 88 rfl) rfl
theorem q192 : (Jvm.Cond.fieldLink "PailRow" (259 : Nat) "PailRow$Fault" "place" "I") ∈ lw_all := lw_g (lw_at lw_m1 90 rfl) rfl
theorem q212 : (Jvm.Cond.classLink "PailRow" (20 : Nat) "java/lang/String") ∈ lw_all := lw_g (lw_at lw_m1 110 rfl) rfl
theorem q214 : (Jvm.Cond.stringRef "PailRow" (22 : Nat) "man") ∈ lw_tbl := lw_at lw_m1 112 rfl
theorem q215 : (Jvm.Cond.stringRef "PailRow" (24 : Nat) "way") ∈ lw_tbl := lw_at lw_m1 113 rfl
theorem q216 : (Jvm.Cond.stringRef "PailRow" (26 : Nat) "pails") ∈ lw_tbl := lw_at lw_m1 114 rfl
theorem q217 : (Jvm.Cond.stringRef "PailRow" (28 : Nat) "well") ∈ lw_tbl := lw_at lw_m1 115 rfl
theorem q218 : (Jvm.Cond.stringRef "PailRow" (30 : Nat) "spill") ∈ lw_tbl := lw_at lw_m1 116 rfl
theorem q219 : (Jvm.Cond.stringRef "PailRow" (32 : Nat) "back") ∈ lw_tbl := lw_at lw_m1 117 rfl
theorem q220 : (Jvm.Cond.stringRef "PailRow" (34 : Nat) "throw") ∈ lw_tbl := lw_at lw_m1 118 rfl
theorem q221 : (Jvm.Cond.stringRef "PailRow" (36 : Nat) "wind") ∈ lw_tbl := lw_at lw_m1 119 rfl
theorem q222 : (Jvm.Cond.stringRef "PailRow" (38 : Nat) "cells") ∈ lw_tbl := lw_at lw_m1 120 rfl
theorem q223 : (Jvm.Cond.stringRef "PailRow" (40 : Nat) "burn") ∈ lw_tbl := lw_at lw_m1 121 rfl
theorem q224 : (Jvm.Cond.stringRef "PailRow" (46 : Nat) "north") ∈ lw_tbl := lw_at lw_m1 122 rfl
theorem q225 : (Jvm.Cond.stringRef "PailRow" (48 : Nat) "east") ∈ lw_tbl := lw_at lw_m1 123 rfl
theorem q226 : (Jvm.Cond.stringRef "PailRow" (50 : Nat) "south") ∈ lw_tbl := lw_at lw_m1 124 rfl
theorem q227 : (Jvm.Cond.stringRef "PailRow" (52 : Nat) "west") ∈ lw_tbl := lw_at lw_m1 125 rfl
theorem q228 : (Jvm.Cond.stringRef "PailRow" (57 : Nat) "row") ∈ lw_tbl := lw_at lw_m1 126 rfl
theorem q229 : (Jvm.Cond.stringRef "PailRow" (59 : Nat) "run") ∈ lw_tbl := lw_at lw_m1 127 rfl
theorem q230 : (Jvm.Cond.stringRef "PailRow" (61 : Nat) "stop") ∈ lw_tbl := lw_at lw_m1 128 rfl
theorem q231 : (Jvm.Cond.stringRef "PailRow" (63 : Nat) "aim") ∈ lw_tbl := lw_at lw_m1 129 rfl
theorem q232 : (Jvm.Cond.stringRef "PailRow" (65 : Nat) "give") ∈ lw_tbl := lw_at lw_m1 130 rfl
theorem q233 : (Jvm.Cond.stringRef "PailRow" (70 : Nat) "at") ∈ lw_tbl := lw_at lw_m1 131 rfl
theorem q234 : (Jvm.Cond.stringRef "PailRow" (72 : Nat) "or") ∈ lw_tbl := lw_at lw_m1 132 rfl
theorem q235 : (Jvm.Cond.stringRef "PailRow" (74 : Nat) "and") ∈ lw_tbl := lw_at lw_m1 133 rfl
theorem q236 : (Jvm.Cond.stringRef "PailRow" (76 : Nat) "not") ∈ lw_tbl := lw_at lw_m1 134 rfl
theorem q237 : (Jvm.Cond.stringRef "PailRow" (78 : Nat) "out") ∈ lw_tbl := lw_at lw_m1 135 rfl
theorem q238 : (Jvm.Cond.stringRef "PailRow" (80 : Nat) "minute") ∈ lw_tbl := lw_at lw_m1 136 rfl
theorem q239 : (Jvm.Cond.stringRef "PailRow" (82 : Nat) "thrown") ∈ lw_tbl := lw_at lw_m1 137 rfl
theorem q240 : (Jvm.Cond.stringRef "PailRow" (84 : Nat) "lost") ∈ lw_tbl := lw_at lw_m1 138 rfl
theorem q241 : (Jvm.Cond.stringRef "PailRow" (86 : Nat) "burns") ∈ lw_tbl := lw_at lw_m1 139 rfl
theorem q242 : (Jvm.Cond.stringRef "PailRow" (88 : Nat) "water") ∈ lw_tbl := lw_at lw_m1 140 rfl
theorem q243 : (Jvm.Cond.classLink "PailRow" (93 : Nat) "PailRow$State") ∈ lw_all := lw_g (lw_at lw_m1 141 rfl) rfl
theorem q245 : (Jvm.Cond.methodLinkNest "PailRow" (95 : Nat) ({ cls := "PailRow$State", name := "<init>", desc := "()V" } : Jvm.MethodName) "PailRow") ∈ lw_tbl := lw_at lw_m1 143 rfl
theorem q261 : (Jvm.Cond.fieldLinkNest "PailRow" (283 : Nat) "PailRow$Yard" "men" "[LPailRow$Man;" "PailRow") ∈ lw_tbl := lw_at lw_m1 159 rfl
theorem q265 : (Jvm.Cond.fieldLinkNest "PailRow" (302 : Nat) "PailRow$Yard" "fuel" "[I" "PailRow") ∈ lw_tbl := lw_at lw_m1 163 rfl
theorem q269 : (Jvm.Cond.fieldLinkNest "PailRow" (305 : Nat) "PailRow$Yard" "burns" "[Z" "PailRow") ∈ lw_tbl := lw_at lw_m1 167 rfl
theorem q272 : (Jvm.Cond.fieldLinkNest "PailRow" (268 : Nat) "PailRow$Yard" "manMany" "I" "PailRow") ∈ lw_tbl := lw_at lw_m1 170 rfl
theorem q277 : (Jvm.Cond.fieldLinkNest "PailRow" (487 : Nat) "PailRow$Yard" "columns" "I" "PailRow") ∈ lw_tbl := lw_at lw_m1 175 rfl
theorem q281 : (Jvm.Cond.fieldLinkNest "PailRow" (467 : Nat) "PailRow$Yard" "rows" "I" "PailRow") ∈ lw_tbl := lw_at lw_m1 179 rfl
theorem q286 : (Jvm.Cond.fieldLinkNest "PailRow" (531 : Nat) "PailRow$Yard" "way" "I" "PailRow") ∈ lw_tbl := lw_at lw_m1 184 rfl
theorem q291 : (Jvm.Cond.fieldLinkNest "PailRow" (529 : Nat) "PailRow$Yard" "pails" "I" "PailRow") ∈ lw_tbl := lw_at lw_m1 189 rfl
theorem q301 : (Jvm.Cond.fieldLinkNest "PailRow" (321 : Nat) "PailRow$Yard" "water" "I" "PailRow") ∈ lw_tbl := lw_at lw_m1 199 rfl
theorem q356 : (Jvm.Cond.fieldLinkNest "PailRow" (490 : Nat) "PailRow$Plan" "things" "[LPailRow$Thing;" "PailRow") ∈ lw_tbl := lw_at lw_m2 14 rfl
theorem q358 : (Jvm.Cond.fieldLinkNest "PailRow" (265 : Nat) "PailRow$Plan" "many" "I" "PailRow") ∈ lw_tbl := lw_at lw_m2 16 rfl
theorem q366 : (Jvm.Cond.fieldLinkNest "PailRow" (241 : Nat) "PailRow$State" "yard" "LPailRow$Yard;" "PailRow") ∈ lw_tbl := lw_at lw_m2 24 rfl
theorem q368 : (Jvm.Cond.fieldLinkNest "PailRow" (248 : Nat) "PailRow$State" "plan" "LPailRow$Plan;" "PailRow") ∈ lw_tbl := lw_at lw_m2 26 rfl
theorem q370 : (Jvm.Cond.fieldLinkNest "PailRow" (252 : Nat) "PailRow$State" "sentence" "LPailRow$Cond;" "PailRow") ∈ lw_tbl := lw_at lw_m2 28 rfl
theorem q378 : (Jvm.Cond.classLink "PailRow" (100 : Nat) "PailRow$YardReader") ∈ lw_all := lw_g (lw_at lw_m2 36 rfl) rfl
theorem q380 : (Jvm.Cond.methodLink "PailRow" (102 : Nat) ({ cls := "PailRow$YardReader", name := "<init>", desc := "(LPailRow;)V" } : Jvm.MethodName)) ∈ lw_all := lw_g (lw_at lw_m2 38 rfl) rfl
theorem q436 : (Jvm.Cond.classLink "PailRow" (109 : Nat) "PailRow$PlanReader") ∈ lw_all := lw_g (lw_at lw_m2 94 rfl) rfl
theorem q438 : (Jvm.Cond.methodLink "PailRow" (111 : Nat) ({ cls := "PailRow$PlanReader", name := "<init>", desc := "(LPailRow;)V" } : Jvm.MethodName)) ∈ lw_all := lw_g (lw_at lw_m2 96 rfl) rfl
theorem q457 : (Jvm.Cond.classLink "PailRow" (116 : Nat) "PailRow$Row") ∈ lw_all := lw_g (lw_at lw_m2 115 rfl) rfl
theorem q459 : (Jvm.Cond.methodLinkNest "PailRow" (118 : Nat) ({ cls := "PailRow$Row", name := "<init>", desc := "()V" } : Jvm.MethodName) "PailRow") ∈ lw_tbl := lw_at lw_m2 117 rfl
theorem q469 : (Jvm.Cond.fieldLinkNest "PailRow" (352 : Nat) "PailRow$Row" "done" "[I" "PailRow") ∈ lw_tbl := lw_at lw_m2 127 rfl
theorem q475 : (Jvm.Cond.fieldLinkNest "PailRow" (343 : Nat) "PailRow$Row" "heaps" "[I" "PailRow") ∈ lw_tbl := lw_at lw_m2 133 rfl
theorem q482 : (Jvm.Cond.fieldLinkNest "PailRow" (346 : Nat) "PailRow$Row" "drawn" "I" "PailRow") ∈ lw_tbl := lw_at lw_m2 140 rfl
theorem q484 : (Jvm.Cond.fieldLinkNest "PailRow" (349 : Nat) "PailRow$Row" "spilt" "I" "PailRow") ∈ lw_tbl := lw_at lw_m2 142 rfl
theorem q496 : (Jvm.Cond.fieldLink "PailRow" (355 : Nat) "PailRow$Row" "many" "I") ∈ lw_all := lw_g (lw_at lw_m2 154 rfl) rfl
theorem q502 : (Jvm.Cond.fieldLink "PailRow" (389 : Nat) "PailRow$Runners" "water" "I") ∈ lw_all := lw_g (lw_at lw_m2 160 rfl) rfl
theorem q503 : (Jvm.Cond.fieldLink "PailRow" (510 : Nat) "PailRow$Team" "water" "I") ∈ lw_all := lw_g (lw_at lw_m2 161 rfl) rfl
theorem q509 : (Jvm.Cond.fieldLink "PailRow" (333 : Nat) "PailRow$Row" "thrown" "I") ∈ lw_all := lw_g (lw_at lw_m2 167 rfl) rfl
theorem q552 : (Jvm.Cond.classLink "PailRow" (125 : Nat) "PailRow$Runners") ∈ lw_all := lw_g (lw_at lw_m2 210 rfl) rfl
theorem q554 : (Jvm.Cond.methodLinkNest "PailRow" (127 : Nat) ({ cls := "PailRow$Runners", name := "<init>", desc := "()V" } : Jvm.MethodName) "PailRow") ∈ lw_tbl := lw_at lw_m2 212 rfl
theorem q577 : (Jvm.Cond.classLink "PailRow" (166 : Nat) "PailRow$Barn") ∈ lw_all := lw_g (lw_at lw_m2 235 rfl) rfl
theorem q579 : (Jvm.Cond.methodLinkNest "PailRow" (168 : Nat) ({ cls := "PailRow$Barn", name := "<init>", desc := "()V" } : Jvm.MethodName) "PailRow") ∈ lw_tbl := lw_at lw_m2 237 rfl
theorem q584 : (Jvm.Cond.fieldLinkNest "PailRow" (462 : Nat) "PailRow$Barn" "fuel" "[I" "PailRow") ∈ lw_tbl := lw_at lw_m3 2 rfl
theorem q586 : (Jvm.Cond.fieldLinkNest "PailRow" (464 : Nat) "PailRow$Barn" "wet" "[I" "PailRow") ∈ lw_tbl := lw_at lw_m3 4 rfl
theorem q589 : (Jvm.Cond.fieldLinkNest "PailRow" (463 : Nat) "PailRow$Barn" "burns" "[Z" "PailRow") ∈ lw_tbl := lw_at lw_m3 7 rfl
theorem q591 : (Jvm.Cond.fieldLinkNest "PailRow" (461 : Nat) "PailRow$Barn" "yard" "LPailRow$Yard;" "PailRow") ∈ lw_tbl := lw_at lw_m3 9 rfl
theorem q593 : (Jvm.Cond.fieldLinkNest "PailRow" (459 : Nat) "PailRow$Barn" "lost" "I" "PailRow") ∈ lw_tbl := lw_at lw_m3 11 rfl
theorem q608 : (Jvm.Cond.classLink "PailRow" (203 : Nat) "PailRow$SentenceReader") ∈ lw_all := lw_g (lw_at lw_m3 26 rfl) rfl
theorem q610 : (Jvm.Cond.methodLink "PailRow" (205 : Nat) ({ cls := "PailRow$SentenceReader", name := "<init>", desc := "(LPailRow;)V" } : Jvm.MethodName)) ∈ lw_all := lw_g (lw_at lw_m3 28 rfl) rfl
theorem q622 : (Jvm.Cond.fieldLinkNest "PailRow" (517 : Nat) "PailRow$SentenceReader" "ones" "I" "PailRow") ∈ lw_tbl := lw_at lw_m3 40 rfl
theorem q640 : (Jvm.Cond.fieldLink "PailRow" (9 : Nat) "PailRow" "tape" "[B") ∈ lw_all := lw_g (lw_at lw_m3 58 rfl) rfl
theorem q643 : (Jvm.Cond.fieldLink "PailRow" (214 : Nat) "PailRow" "length" "I") ∈ lw_all := lw_g (lw_at lw_m3 61 rfl) rfl
theorem q645 : (Jvm.Cond.fieldLink "PailRow" (222 : Nat) "PailRow" "size" "I") ∈ lw_all := lw_g (lw_at lw_m3 63 rfl) rfl
theorem q646 : (Jvm.Cond.fieldLink "PailRow" (16 : Nat) "PailRow" "broken" "LPailRow$Fault;") ∈ lw_all := lw_g (lw_at lw_m3 64 rfl) rfl
theorem q648 : (Jvm.Cond.fieldLink "PailRow" (42 : Nat) "PailRow" "lines" "[Ljava/lang/String;") ∈ lw_all := lw_g (lw_at lw_m3 66 rfl) rfl
theorem q651 : (Jvm.Cond.fieldLink "PailRow" (54 : Nat) "PailRow" "winds" "[Ljava/lang/String;") ∈ lw_all := lw_g (lw_at lw_m3 69 rfl) rfl
theorem q654 : (Jvm.Cond.fieldLink "PailRow" (67 : Nat) "PailRow" "things" "[Ljava/lang/String;") ∈ lw_all := lw_g (lw_at lw_m3 72 rfl) rfl
theorem q657 : (Jvm.Cond.fieldLink "PailRow" (90 : Nat) "PailRow" "words" "[Ljava/lang/String;") ∈ lw_all := lw_g (lw_at lw_m3 75 rfl) rfl
theorem q659 : (Jvm.Cond.fieldLink "PailRow" (96 : Nat) "PailRow" "now" "LPailRow$State;") ∈ lw_all := lw_g (lw_at lw_m3 77 rfl) rfl
theorem q661 : (Jvm.Cond.fieldLink "PailRow" (105 : Nat) "PailRow" "yardReader" "LPailRow$YardReader;") ∈ lw_all := lw_g (lw_at lw_m3 79 rfl) rfl
theorem q662 : (Jvm.Cond.fieldLink "PailRow" (112 : Nat) "PailRow" "planReader" "LPailRow$PlanReader;") ∈ lw_all := lw_g (lw_at lw_m3 80 rfl) rfl
theorem q663 : (Jvm.Cond.fieldLink "PailRow" (231 : Nat) "PailRow" "fault" "I") ∈ lw_all := lw_g (lw_at lw_m3 81 rfl) rfl
theorem q664 : (Jvm.Cond.fieldLink "PailRow" (119 : Nat) "PailRow" "row" "LPailRow$Row;") ∈ lw_all := lw_g (lw_at lw_m3 82 rfl) rfl
theorem q665 : (Jvm.Cond.fieldLink "PailRow" (122 : Nat) "PailRow" "nightRow" "LPailRow$Row;") ∈ lw_all := lw_g (lw_at lw_m3 83 rfl) rfl
theorem q666 : (Jvm.Cond.fieldLink "PailRow" (128 : Nat) "PailRow" "runners" "LPailRow$Runners;") ∈ lw_all := lw_g (lw_at lw_m3 84 rfl) rfl
theorem q667 : (Jvm.Cond.fieldLink "PailRow" (132 : Nat) "PailRow" "nightRunners" "LPailRow$Runners;") ∈ lw_all := lw_g (lw_at lw_m3 85 rfl) rfl
theorem q668 : (Jvm.Cond.fieldLink "PailRow" (135 : Nat) "PailRow" "asked" "[I") ∈ lw_all := lw_g (lw_at lw_m3 86 rfl) rfl
theorem q669 : (Jvm.Cond.fieldLink "PailRow" (308 : Nat) "PailRow" "askedMany" "I") ∈ lw_all := lw_g (lw_at lw_m3 87 rfl) rfl
theorem q670 : (Jvm.Cond.fieldLink "PailRow" (335 : Nat) "PailRow" "hasRow" "Z") ∈ lw_all := lw_g (lw_at lw_m3 88 rfl) rfl
theorem q671 : (Jvm.Cond.fieldLink "PailRow" (139 : Nat) "PailRow" "kept" "[I") ∈ lw_all := lw_g (lw_at lw_m3 89 rfl) rfl
theorem q672 : (Jvm.Cond.fieldLink "PailRow" (142 : Nat) "PailRow" "keptDone" "[I") ∈ lw_all := lw_g (lw_at lw_m3 90 rfl) rfl
theorem q673 : (Jvm.Cond.fieldLink "PailRow" (356 : Nat) "PailRow" "keptMany" "I") ∈ lw_all := lw_g (lw_at lw_m3 91 rfl) rfl
theorem q674 : (Jvm.Cond.fieldLink "PailRow" (145 : Nat) "PailRow" "order" "[I") ∈ lw_all := lw_g (lw_at lw_m3 92 rfl) rfl
theorem q675 : (Jvm.Cond.fieldLink "PailRow" (148 : Nat) "PailRow" "bestOrder" "[I") ∈ lw_all := lw_g (lw_at lw_m3 93 rfl) rfl
theorem q676 : (Jvm.Cond.fieldLink "PailRow" (376 : Nat) "PailRow" "bestMany" "I") ∈ lw_all := lw_g (lw_at lw_m3 94 rfl) rfl
theorem q677 : (Jvm.Cond.fieldLink "PailRow" (369 : Nat) "PailRow" "bestPeriod" "I") ∈ lw_all := lw_g (lw_at lw_m3 95 rfl) rfl
theorem q678 : (Jvm.Cond.fieldLink "PailRow" (151 : Nat) "PailRow" "inTurn" "[I") ∈ lw_all := lw_g (lw_at lw_m3 96 rfl) rfl
theorem q679 : (Jvm.Cond.fieldLink "PailRow" (154 : Nat) "PailRow" "beside" "[I") ∈ lw_all := lw_g (lw_at lw_m3 97 rfl) rfl
theorem q680 : (Jvm.Cond.fieldLink "PailRow" (403 : Nat) "PailRow" "besideMany" "I") ∈ lw_all := lw_g (lw_at lw_m3 98 rfl) rfl
theorem q681 : (Jvm.Cond.fieldLink "PailRow" (157 : Nat) "PailRow" "powers" "[I") ∈ lw_all := lw_g (lw_at lw_m3 99 rfl) rfl
theorem q682 : (Jvm.Cond.fieldLink "PailRow" (160 : Nat) "PailRow" "hooked" "[I") ∈ lw_all := lw_g (lw_at lw_m3 100 rfl) rfl
theorem q683 : (Jvm.Cond.fieldLink "PailRow" (163 : Nat) "PailRow" "bestHooks" "[I") ∈ lw_all := lw_g (lw_at lw_m3 101 rfl) rfl
theorem q684 : (Jvm.Cond.fieldLink "PailRow" (421 : Nat) "PailRow" "hookMany" "I") ∈ lw_all := lw_g (lw_at lw_m3 102 rfl) rfl
theorem q685 : (Jvm.Cond.fieldLink "PailRow" (414 : Nat) "PailRow" "bestWay" "I") ∈ lw_all := lw_g (lw_at lw_m3 103 rfl) rfl
theorem q686 : (Jvm.Cond.fieldLink "PailRow" (169 : Nat) "PailRow" "barn" "LPailRow$Barn;") ∈ lw_all := lw_g (lw_at lw_m3 104 rfl) rfl
theorem q687 : (Jvm.Cond.fieldLink "PailRow" (173 : Nat) "PailRow" "tried" "LPailRow$Barn;") ∈ lw_all := lw_g (lw_at lw_m3 105 rfl) rfl
theorem q688 : (Jvm.Cond.fieldLink "PailRow" (176 : Nat) "PailRow" "seen" "[LPailRow$Barn;") ∈ lw_all := lw_g (lw_at lw_m3 106 rfl) rfl
theorem q689 : (Jvm.Cond.fieldLink "PailRow" (442 : Nat) "PailRow" "hasFire" "Z") ∈ lw_all := lw_g (lw_at lw_m3 107 rfl) rfl
theorem q690 : (Jvm.Cond.fieldLink "PailRow" (447 : Nat) "PailRow" "outAt" "I") ∈ lw_all := lw_g (lw_at lw_m3 108 rfl) rfl
theorem q691 : (Jvm.Cond.fieldLink "PailRow" (180 : Nat) "PailRow" "steps" "[LPailRow$Barn;") ∈ lw_all := lw_g (lw_at lw_m3 109 rfl) rfl
theorem q692 : (Jvm.Cond.fieldLink "PailRow" (183 : Nat) "PailRow" "aims" "[I") ∈ lw_all := lw_g (lw_at lw_m3 110 rfl) rfl
theorem q693 : (Jvm.Cond.fieldLink "PailRow" (186 : Nat) "PailRow" "bestAims" "[I") ∈ lw_all := lw_g (lw_at lw_m3 111 rfl) rfl
theorem q694 : (Jvm.Cond.fieldLink "PailRow" (475 : Nat) "PailRow" "aimMany" "I") ∈ lw_all := lw_g (lw_at lw_m3 112 rfl) rfl
theorem q695 : (Jvm.Cond.fieldLink "PailRow" (469 : Nat) "PailRow" "leastLost" "I") ∈ lw_all := lw_g (lw_at lw_m3 113 rfl) rfl
theorem q696 : (Jvm.Cond.fieldLink "PailRow" (189 : Nat) "PailRow" "dark" "LPailRow$Barn;") ∈ lw_all := lw_g (lw_at lw_m3 114 rfl) rfl
theorem q697 : (Jvm.Cond.fieldLink "PailRow" (192 : Nat) "PailRow" "threw" "[I") ∈ lw_all := lw_g (lw_at lw_m3 115 rfl) rfl
theorem q699 : (Jvm.Cond.fieldLink "PailRow" (195 : Nat) "PailRow" "lost" "[I") ∈ lw_all := lw_g (lw_at lw_m3 117 rfl) rfl
theorem q701 : (Jvm.Cond.fieldLink "PailRow" (197 : Nat) "PailRow" "burning" "[I") ∈ lw_all := lw_g (lw_at lw_m3 119 rfl) rfl
theorem q704 : (Jvm.Cond.fieldLink "PailRow" (200 : Nat) "PailRow" "wells" "[I") ∈ lw_all := lw_g (lw_at lw_m3 122 rfl) rfl
theorem q706 : (Jvm.Cond.fieldLink "PailRow" (206 : Nat) "PailRow" "sentenceReader" "LPailRow$SentenceReader;") ∈ lw_all := lw_g (lw_at lw_m3 124 rfl) rfl
theorem q707 : (Jvm.Cond.fieldLink "PailRow" (210 : Nat) "PailRow" "images" "[LPailRow$State;") ∈ lw_all := lw_g (lw_at lw_m3 125 rfl) rfl
theorem q708 : (Jvm.Cond.laysFinal "PailRow" "PailRow" "tape" "[B") ∈ lw_all := lw_g (lw_at lw_m3 126 rfl) rfl
theorem q709 : (Jvm.Cond.soleField "PailRow" "tape") ∈ lw_all := lw_g (lw_at lw_m3 127 rfl) rfl
theorem q710 : (Jvm.Cond.lays "PailRow" "PailRow" "length" "I") ∈ lw_all := lw_g (lw_at lw_m3 128 rfl) rfl
theorem q711 : (Jvm.Cond.soleField "PailRow" "length") ∈ lw_all := lw_g (lw_at lw_m3 129 rfl) rfl
theorem q712 : (Jvm.Cond.lays "PailRow" "PailRow" "size" "I") ∈ lw_all := lw_g (lw_at lw_m3 130 rfl) rfl
theorem q713 : (Jvm.Cond.soleField "PailRow" "size") ∈ lw_all := lw_g (lw_at lw_m3 131 rfl) rfl
theorem q714 : (Jvm.Cond.lays "PailRow" "PailRow" "today" "I") ∈ lw_all := lw_g (lw_at lw_m3 132 rfl) rfl
theorem q715 : (Jvm.Cond.soleField "PailRow" "today") ∈ lw_all := lw_g (lw_at lw_m3 133 rfl) rfl
theorem q716 : (Jvm.Cond.laysFinal "PailRow" "PailRow" "broken" "LPailRow$Fault;") ∈ lw_all := lw_g (lw_at lw_m3 134 rfl) rfl
theorem q717 : (Jvm.Cond.soleField "PailRow" "broken") ∈ lw_all := lw_g (lw_at lw_m3 135 rfl) rfl
theorem q718 : (Jvm.Cond.laysFinal "PailRow" "PailRow" "lines" "[Ljava/lang/String;") ∈ lw_all := lw_g (lw_at lw_m3 136 rfl) rfl
theorem q719 : (Jvm.Cond.soleField "PailRow" "lines") ∈ lw_all := lw_g (lw_at lw_m3 137 rfl) rfl
theorem q720 : (Jvm.Cond.laysFinal "PailRow" "PailRow" "winds" "[Ljava/lang/String;") ∈ lw_all := lw_g (lw_at lw_m3 138 rfl) rfl
theorem q721 : (Jvm.Cond.soleField "PailRow" "winds") ∈ lw_all := lw_g (lw_at lw_m3 139 rfl) rfl
theorem q722 : (Jvm.Cond.laysFinal "PailRow" "PailRow" "things" "[Ljava/lang/String;") ∈ lw_all := lw_g (lw_at lw_m3 140 rfl) rfl
theorem q723 : (Jvm.Cond.soleField "PailRow" "things") ∈ lw_all := lw_g (lw_at lw_m3 141 rfl) rfl
theorem q724 : (Jvm.Cond.laysFinal "PailRow" "PailRow" "words" "[Ljava/lang/String;") ∈ lw_all := lw_g (lw_at lw_m3 142 rfl) rfl
theorem q725 : (Jvm.Cond.soleField "PailRow" "words") ∈ lw_all := lw_g (lw_at lw_m3 143 rfl) rfl
theorem q726 : (Jvm.Cond.laysFinal "PailRow" "PailRow" "now" "LPailRow$State;") ∈ lw_all := lw_g (lw_at lw_m3 144 rfl) rfl
theorem q727 : (Jvm.Cond.soleField "PailRow" "now") ∈ lw_all := lw_g (lw_at lw_m3 145 rfl) rfl
theorem q728 : (Jvm.Cond.laysFinal "PailRow" "PailRow" "yardReader" "LPailRow$YardReader;") ∈ lw_all := lw_g (lw_at lw_m3 146 rfl) rfl
theorem q729 : (Jvm.Cond.soleField "PailRow" "yardReader") ∈ lw_all := lw_g (lw_at lw_m3 147 rfl) rfl
theorem q730 : (Jvm.Cond.laysFinal "PailRow" "PailRow" "planReader" "LPailRow$PlanReader;") ∈ lw_all := lw_g (lw_at lw_m3 148 rfl) rfl
theorem q731 : (Jvm.Cond.soleField "PailRow" "planReader") ∈ lw_all := lw_g (lw_at lw_m3 149 rfl) rfl
theorem q732 : (Jvm.Cond.lays "PailRow" "PailRow" "fault" "I") ∈ lw_all := lw_g (lw_at lw_m3 150 rfl) rfl
theorem q733 : (Jvm.Cond.soleField "PailRow" "fault") ∈ lw_all := lw_g (lw_at lw_m3 151 rfl) rfl
theorem q734 : (Jvm.Cond.laysFinal "PailRow" "PailRow" "row" "LPailRow$Row;") ∈ lw_all := lw_g (lw_at lw_m3 152 rfl) rfl
theorem q735 : (Jvm.Cond.soleField "PailRow" "row") ∈ lw_all := lw_g (lw_at lw_m3 153 rfl) rfl
theorem q736 : (Jvm.Cond.laysFinal "PailRow" "PailRow" "nightRow" "LPailRow$Row;") ∈ lw_all := lw_g (lw_at lw_m3 154 rfl) rfl
theorem q737 : (Jvm.Cond.soleField "PailRow" "nightRow") ∈ lw_all := lw_g (lw_at lw_m3 155 rfl) rfl
theorem q738 : (Jvm.Cond.laysFinal "PailRow" "PailRow" "runners" "LPailRow$Runners;") ∈ lw_all := lw_g (lw_at lw_m3 156 rfl) rfl
theorem q739 : (Jvm.Cond.soleField "PailRow" "runners") ∈ lw_all := lw_g (lw_at lw_m3 157 rfl) rfl
theorem q740 : (Jvm.Cond.laysFinal "PailRow" "PailRow" "nightRunners" "LPailRow$Runners;") ∈ lw_all := lw_g (lw_at lw_m3 158 rfl) rfl
theorem q741 : (Jvm.Cond.soleField "PailRow" "nightRunners") ∈ lw_all := lw_g (lw_at lw_m3 159 rfl) rfl
theorem q742 : (Jvm.Cond.laysFinal "PailRow" "PailRow" "asked" "[I") ∈ lw_all := lw_g (lw_at lw_m3 160 rfl) rfl
theorem q743 : (Jvm.Cond.soleField "PailRow" "asked") ∈ lw_all := lw_g (lw_at lw_m3 161 rfl) rfl
theorem q744 : (Jvm.Cond.lays "PailRow" "PailRow" "askedMany" "I") ∈ lw_all := lw_g (lw_at lw_m3 162 rfl) rfl
theorem q745 : (Jvm.Cond.soleField "PailRow" "askedMany") ∈ lw_all := lw_g (lw_at lw_m3 163 rfl) rfl
theorem q746 : (Jvm.Cond.lays "PailRow" "PailRow" "hasRow" "Z") ∈ lw_all := lw_g (lw_at lw_m3 164 rfl) rfl
theorem q747 : (Jvm.Cond.soleField "PailRow" "hasRow") ∈ lw_all := lw_g (lw_at lw_m3 165 rfl) rfl
theorem q748 : (Jvm.Cond.laysFinal "PailRow" "PailRow" "kept" "[I") ∈ lw_all := lw_g (lw_at lw_m3 166 rfl) rfl
theorem q749 : (Jvm.Cond.soleField "PailRow" "kept") ∈ lw_all := lw_g (lw_at lw_m3 167 rfl) rfl
theorem q750 : (Jvm.Cond.laysFinal "PailRow" "PailRow" "keptDone" "[I") ∈ lw_all := lw_g (lw_at lw_m3 168 rfl) rfl
theorem q751 : (Jvm.Cond.soleField "PailRow" "keptDone") ∈ lw_all := lw_g (lw_at lw_m3 169 rfl) rfl
theorem q752 : (Jvm.Cond.lays "PailRow" "PailRow" "keptMany" "I") ∈ lw_all := lw_g (lw_at lw_m3 170 rfl) rfl
theorem q753 : (Jvm.Cond.soleField "PailRow" "keptMany") ∈ lw_all := lw_g (lw_at lw_m3 171 rfl) rfl
theorem q754 : (Jvm.Cond.laysFinal "PailRow" "PailRow" "order" "[I") ∈ lw_all := lw_g (lw_at lw_m3 172 rfl) rfl
theorem q755 : (Jvm.Cond.soleField "PailRow" "order") ∈ lw_all := lw_g (lw_at lw_m3 173 rfl) rfl
theorem q756 : (Jvm.Cond.laysFinal "PailRow" "PailRow" "bestOrder" "[I") ∈ lw_all := lw_g (lw_at lw_m3 174 rfl) rfl
theorem q757 : (Jvm.Cond.soleField "PailRow" "bestOrder") ∈ lw_all := lw_g (lw_at lw_m3 175 rfl) rfl
theorem q758 : (Jvm.Cond.lays "PailRow" "PailRow" "bestMany" "I") ∈ lw_all := lw_g (lw_at lw_m3 176 rfl) rfl
theorem q759 : (Jvm.Cond.soleField "PailRow" "bestMany") ∈ lw_all := lw_g (lw_at lw_m3 177 rfl) rfl
theorem q760 : (Jvm.Cond.lays "PailRow" "PailRow" "bestPeriod" "I") ∈ lw_all := lw_g (lw_at lw_m3 178 rfl) rfl
theorem q761 : (Jvm.Cond.soleField "PailRow" "bestPeriod") ∈ lw_all := lw_g (lw_at lw_m3 179 rfl) rfl
theorem q762 : (Jvm.Cond.laysFinal "PailRow" "PailRow" "inTurn" "[I") ∈ lw_all := lw_g (lw_at lw_m3 180 rfl) rfl
theorem q763 : (Jvm.Cond.soleField "PailRow" "inTurn") ∈ lw_all := lw_g (lw_at lw_m3 181 rfl) rfl
theorem q764 : (Jvm.Cond.laysFinal "PailRow" "PailRow" "beside" "[I") ∈ lw_all := lw_g (lw_at lw_m3 182 rfl) rfl
theorem q765 : (Jvm.Cond.soleField "PailRow" "beside") ∈ lw_all := lw_g (lw_at lw_m3 183 rfl) rfl
theorem q766 : (Jvm.Cond.lays "PailRow" "PailRow" "besideMany" "I") ∈ lw_all := lw_g (lw_at lw_m3 184 rfl) rfl
theorem q767 : (Jvm.Cond.soleField "PailRow" "besideMany") ∈ lw_all := lw_g (lw_at lw_m3 185 rfl) rfl
theorem q768 : (Jvm.Cond.laysFinal "PailRow" "PailRow" "powers" "[I") ∈ lw_all := lw_g (lw_at lw_m3 186 rfl) rfl
theorem q769 : (Jvm.Cond.soleField "PailRow" "powers") ∈ lw_all := lw_g (lw_at lw_m3 187 rfl) rfl
theorem q770 : (Jvm.Cond.laysFinal "PailRow" "PailRow" "hooked" "[I") ∈ lw_all := lw_g (lw_at lw_m3 188 rfl) rfl
theorem q771 : (Jvm.Cond.soleField "PailRow" "hooked") ∈ lw_all := lw_g (lw_at lw_m3 189 rfl) rfl
theorem q772 : (Jvm.Cond.laysFinal "PailRow" "PailRow" "bestHooks" "[I") ∈ lw_all := lw_g (lw_at lw_m3 190 rfl) rfl
theorem q773 : (Jvm.Cond.soleField "PailRow" "bestHooks") ∈ lw_all := lw_g (lw_at lw_m3 191 rfl) rfl
theorem q774 : (Jvm.Cond.lays "PailRow" "PailRow" "hookMany" "I") ∈ lw_all := lw_g (lw_at lw_m3 192 rfl) rfl
theorem q775 : (Jvm.Cond.soleField "PailRow" "hookMany") ∈ lw_all := lw_g (lw_at lw_m3 193 rfl) rfl
theorem q776 : (Jvm.Cond.lays "PailRow" "PailRow" "bestWay" "I") ∈ lw_all := lw_g (lw_at lw_m3 194 rfl) rfl
theorem q777 : (Jvm.Cond.soleField "PailRow" "bestWay") ∈ lw_all := lw_g (lw_at lw_m3 195 rfl) rfl
theorem q778 : (Jvm.Cond.laysFinal "PailRow" "PailRow" "barn" "LPailRow$Barn;") ∈ lw_all := lw_g (lw_at lw_m3 196 rfl) rfl
theorem q779 : (Jvm.Cond.soleField "PailRow" "barn") ∈ lw_all := lw_g (lw_at lw_m3 197 rfl) rfl
theorem q780 : (Jvm.Cond.laysFinal "PailRow" "PailRow" "tried" "LPailRow$Barn;") ∈ lw_all := lw_g (lw_at lw_m3 198 rfl) rfl
theorem q781 : (Jvm.Cond.soleField "PailRow" "tried") ∈ lw_all := lw_g (lw_at lw_m3 199 rfl) rfl
theorem q782 : (Jvm.Cond.laysFinal "PailRow" "PailRow" "seen" "[LPailRow$Barn;") ∈ lw_all := lw_g (lw_at lw_m3 200 rfl) rfl
theorem q783 : (Jvm.Cond.soleField "PailRow" "seen") ∈ lw_all := lw_g (lw_at lw_m3 201 rfl) rfl
theorem q784 : (Jvm.Cond.lays "PailRow" "PailRow" "hasFire" "Z") ∈ lw_all := lw_g (lw_at lw_m3 202 rfl) rfl
theorem q785 : (Jvm.Cond.soleField "PailRow" "hasFire") ∈ lw_all := lw_g (lw_at lw_m3 203 rfl) rfl
theorem q786 : (Jvm.Cond.lays "PailRow" "PailRow" "outAt" "I") ∈ lw_all := lw_g (lw_at lw_m3 204 rfl) rfl
theorem q787 : (Jvm.Cond.soleField "PailRow" "outAt") ∈ lw_all := lw_g (lw_at lw_m3 205 rfl) rfl
theorem q788 : (Jvm.Cond.laysFinal "PailRow" "PailRow" "steps" "[LPailRow$Barn;") ∈ lw_all := lw_g (lw_at lw_m3 206 rfl) rfl
theorem q789 : (Jvm.Cond.soleField "PailRow" "steps") ∈ lw_all := lw_g (lw_at lw_m3 207 rfl) rfl
theorem q790 : (Jvm.Cond.laysFinal "PailRow" "PailRow" "aims" "[I") ∈ lw_all := lw_g (lw_at lw_m3 208 rfl) rfl
theorem q791 : (Jvm.Cond.soleField "PailRow" "aims") ∈ lw_all := lw_g (lw_at lw_m3 209 rfl) rfl
theorem q792 : (Jvm.Cond.laysFinal "PailRow" "PailRow" "bestAims" "[I") ∈ lw_all := lw_g (lw_at lw_m3 210 rfl) rfl
theorem q793 : (Jvm.Cond.soleField "PailRow" "bestAims") ∈ lw_all := lw_g (lw_at lw_m3 211 rfl) rfl
theorem q794 : (Jvm.Cond.lays "PailRow" "PailRow" "aimMany" "I") ∈ lw_all := lw_g (lw_at lw_m3 212 rfl) rfl
theorem q795 : (Jvm.Cond.soleField "PailRow" "aimMany") ∈ lw_all := lw_g (lw_at lw_m3 213 rfl) rfl
theorem q796 : (Jvm.Cond.lays "PailRow" "PailRow" "leastLost" "I") ∈ lw_all := lw_g (lw_at lw_m3 214 rfl) rfl
theorem q797 : (Jvm.Cond.soleField "PailRow" "leastLost") ∈ lw_all := lw_g (lw_at lw_m3 215 rfl) rfl
theorem q798 : (Jvm.Cond.laysFinal "PailRow" "PailRow" "dark" "LPailRow$Barn;") ∈ lw_all := lw_g (lw_at lw_m3 216 rfl) rfl
theorem q799 : (Jvm.Cond.soleField "PailRow" "dark") ∈ lw_all := lw_g (lw_at lw_m3 217 rfl) rfl
theorem q800 : (Jvm.Cond.laysFinal "PailRow" "PailRow" "threw" "[I") ∈ lw_all := lw_g (lw_at lw_m3 218 rfl) rfl
theorem q801 : (Jvm.Cond.soleField "PailRow" "threw") ∈ lw_all := lw_g (lw_at lw_m3 219 rfl) rfl
theorem q802 : (Jvm.Cond.laysFinal "PailRow" "PailRow" "lost" "[I") ∈ lw_all := lw_g (lw_at lw_m3 220 rfl) rfl
theorem q803 : (Jvm.Cond.soleField "PailRow" "lost") ∈ lw_all := lw_g (lw_at lw_m3 221 rfl) rfl
theorem q804 : (Jvm.Cond.laysFinal "PailRow" "PailRow" "burning" "[I") ∈ lw_all := lw_g (lw_at lw_m3 222 rfl) rfl
theorem q805 : (Jvm.Cond.soleField "PailRow" "burning") ∈ lw_all := lw_g (lw_at lw_m3 223 rfl) rfl
theorem q806 : (Jvm.Cond.laysFinal "PailRow" "PailRow" "wells" "[I") ∈ lw_all := lw_g (lw_at lw_m3 224 rfl) rfl
theorem q807 : (Jvm.Cond.soleField "PailRow" "wells") ∈ lw_all := lw_g (lw_at lw_m3 225 rfl) rfl
theorem q808 : (Jvm.Cond.laysFinal "PailRow" "PailRow" "sentenceReader" "LPailRow$SentenceReader;") ∈ lw_all := lw_g (lw_at lw_m3 226 rfl) rfl
theorem q809 : (Jvm.Cond.soleField "PailRow" "sentenceReader") ∈ lw_all := lw_g (lw_at lw_m3 227 rfl) rfl
theorem q810 : (Jvm.Cond.laysFinal "PailRow" "PailRow" "images" "[LPailRow$State;") ∈ lw_all := lw_g (lw_at lw_m3 228 rfl) rfl
theorem q811 : (Jvm.Cond.soleField "PailRow" "images") ∈ lw_all := lw_g (lw_at lw_m3 229 rfl) rfl
theorem q812 : (Jvm.Cond.superclass "PailRow" "java/lang/Object") ∈ lw_all := lw_g (lw_at lw_m3 230 rfl) rfl
theorem q814 : (Jvm.Cond.instanceMethod ({ cls := "PailRow", name := "feed", desc := "(IIIII)I" } : Jvm.MethodName)) ∈ lw_all := lw_g (lw_at lw_m3 232 rfl) rfl
theorem q815 : (Jvm.Cond.selects "PailRow" ({ cls := "PailRow", name := "feed", desc := "(IIIII)I" } : Jvm.MethodName) ({ cls := "PailRow", name := "feed", desc := "(IIIII)I" } : Jvm.MethodName)) ∈ lw_all := lw_g (lw_at lw_m3 233 rfl) rfl
theorem q816 : (Jvm.Cond.code ({ cls := "PailRow", name := "feed", desc := "(IIIII)I" } : Jvm.MethodName) prog_1_method_2_code (6 : Nat) (Option.some Jvm.ClassFile.FieldType.int)) ∈ lw_all := lw_g (lw_at lw_m3 234 rfl) rfl
theorem q817 : (Jvm.Cond.methodLink "PailRow" (218 : Nat) ({ cls := "PailRow", name := "four", desc := "(I)V" } : Jvm.MethodName)) ∈ lw_all := lw_g (lw_at lw_m3 235 rfl) rfl
theorem q818 : (Jvm.Cond.privateMethod ({ cls := "PailRow", name := "four", desc := "(I)V" } : Jvm.MethodName)) ∈ lw_tbl := lw_at lw_m3 236 rfl
theorem q819 : (Jvm.Cond.instanceMethod ({ cls := "PailRow", name := "four", desc := "(I)V" } : Jvm.MethodName)) ∈ lw_all := lw_g (lw_at lw_m3 237 rfl) rfl
theorem q820 : (Jvm.Cond.code ({ cls := "PailRow", name := "four", desc := "(I)V" } : Jvm.MethodName) prog_1_method_3_code (3 : Nat) (Option.none : Option Jvm.ClassFile.FieldType)) ∈ lw_all := lw_g (lw_at lw_m3 238 rfl) rfl
theorem q822 : (Jvm.Cond.instanceMethod ({ cls := "PailRow", name := "end", desc := "(I)Z" } : Jvm.MethodName)) ∈ lw_all := lw_g (lw_at lw_m4 0 rfl) rfl
theorem q823 : (Jvm.Cond.selects "PailRow" ({ cls := "PailRow", name := "end", desc := "(I)Z" } : Jvm.MethodName) ({ cls := "PailRow", name := "end", desc := "(I)Z" } : Jvm.MethodName)) ∈ lw_all := lw_g (lw_at lw_m4 1 rfl) rfl
theorem q824 : (Jvm.Cond.code ({ cls := "PailRow", name := "end", desc := "(I)Z" } : Jvm.MethodName) prog_1_method_4_code (2 : Nat) (Option.some Jvm.ClassFile.FieldType.boolean)) ∈ lw_all := lw_g (lw_at lw_m4 2 rfl) rfl
theorem q826 : (Jvm.Cond.instanceMethod ({ cls := "PailRow", name := "yard", desc := "()I" } : Jvm.MethodName)) ∈ lw_all := lw_g (lw_at lw_m4 4 rfl) rfl
theorem q827 : (Jvm.Cond.selects "PailRow" ({ cls := "PailRow", name := "yard", desc := "()I" } : Jvm.MethodName) ({ cls := "PailRow", name := "yard", desc := "()I" } : Jvm.MethodName)) ∈ lw_all := lw_g (lw_at lw_m4 5 rfl) rfl
theorem q828 : (Jvm.Cond.codeWith ({ cls := "PailRow", name := "yard", desc := "()I" } : Jvm.MethodName) prog_1_method_10_code (3 : Nat) (Option.some Jvm.ClassFile.FieldType.int) [((17 : Nat), (57 : Nat), (58 : Nat), (13 : Nat))]) ∈ lw_all := lw_g (lw_at lw_m4 6 rfl) rfl
theorem q829 : (Jvm.Cond.methodLink "PailRow" (228 : Nat) ({ cls := "PailRow", name := "taken", desc := "()V" } : Jvm.MethodName)) ∈ lw_all := lw_g (lw_at lw_m4 7 rfl) rfl
theorem q830 : (Jvm.Cond.privateMethod ({ cls := "PailRow", name := "taken", desc := "()V" } : Jvm.MethodName)) ∈ lw_tbl := lw_at lw_m4 8 rfl
theorem q831 : (Jvm.Cond.instanceMethod ({ cls := "PailRow", name := "taken", desc := "()V" } : Jvm.MethodName)) ∈ lw_all := lw_g (lw_at lw_m4 9 rfl) rfl
theorem q832 : (Jvm.Cond.code ({ cls := "PailRow", name := "taken", desc := "()V" } : Jvm.MethodName) prog_1_method_5_code (1 : Nat) (Option.none : Option Jvm.ClassFile.FieldType)) ∈ lw_all := lw_g (lw_at lw_m4 10 rfl) rfl
theorem q833 : (Jvm.Cond.classLink "PailRow" (234 : Nat) "PailRow$Yard") ∈ lw_all := lw_g (lw_at lw_m4 11 rfl) rfl
theorem q834 : (Jvm.Cond.methodLinkNest "PailRow" (236 : Nat) ({ cls := "PailRow$Yard", name := "<init>", desc := "()V" } : Jvm.MethodName) "PailRow") ∈ lw_tbl := lw_at lw_m4 12 rfl
theorem q835 : (Jvm.Cond.methodLink "PailRow" (237 : Nat) ({ cls := "PailRow$YardReader", name := "read", desc := "(LPailRow$Yard;)I" } : Jvm.MethodName)) ∈ lw_all := lw_g (lw_at lw_m4 13 rfl) rfl
theorem q861 : (Jvm.Cond.static ({ cls := "PailRow", name := "isIn", desc := "(III)Z" } : Jvm.MethodName)) ∈ lw_all := lw_g (lw_at lw_m4 39 rfl) rfl
theorem q862 : (Jvm.Cond.code ({ cls := "PailRow", name := "isIn", desc := "(III)Z" } : Jvm.MethodName) prog_1_method_7_code (3 : Nat) (Option.some Jvm.ClassFile.FieldType.boolean)) ∈ lw_all := lw_g (lw_at lw_m4 40 rfl) rfl
theorem q987 : (Jvm.Cond.fieldLinkNest "PailRow" (287 : Nat) "PailRow$Man" "hand" "I" "PailRow") ∈ lw_tbl := lw_at lw_m4 165 rfl
theorem q990 : (Jvm.Cond.fieldLinkNest "PailRow" (292 : Nat) "PailRow$Man" "pace" "I" "PailRow") ∈ lw_tbl := lw_at lw_m4 168 rfl
theorem q993 : (Jvm.Cond.fieldLinkNest "PailRow" (295 : Nat) "PailRow$Man" "power" "I" "PailRow") ∈ lw_tbl := lw_at lw_m4 171 rfl
theorem q1024 : (Jvm.Cond.classLink "PailRow" (245 : Nat) "PailRow$Plan") ∈ lw_all := lw_g (lw_at lw_m4 202 rfl) rfl
theorem q1025 : (Jvm.Cond.methodLinkNest "PailRow" (247 : Nat) ({ cls := "PailRow$Plan", name := "<init>", desc := "()V" } : Jvm.MethodName) "PailRow") ∈ lw_tbl := lw_at lw_m4 203 rfl
theorem q1027 : (Jvm.Cond.instanceMethod ({ cls := "PailRow", name := "fault", desc := "()I" } : Jvm.MethodName)) ∈ lw_all := lw_g (lw_at lw_m4 205 rfl) rfl
theorem q1028 : (Jvm.Cond.selects "PailRow" ({ cls := "PailRow", name := "fault", desc := "()I" } : Jvm.MethodName) ({ cls := "PailRow", name := "fault", desc := "()I" } : Jvm.MethodName)) ∈ lw_all := lw_g (lw_at lw_m4 206 rfl) rfl
theorem q1029 : (Jvm.Cond.code ({ cls := "PailRow", name := "fault", desc := "()I" } : Jvm.MethodName) prog_1_method_11_code (1 : Nat) (Option.some Jvm.ClassFile.FieldType.int)) ∈ lw_all := lw_g (lw_at lw_m4 207 rfl) rfl
theorem q1031 : (Jvm.Cond.instanceMethod ({ cls := "PailRow", name := "plan", desc := "()I" } : Jvm.MethodName)) ∈ lw_all := lw_g (lw_at lw_m4 209 rfl) rfl
theorem q1032 : (Jvm.Cond.selects "PailRow" ({ cls := "PailRow", name := "plan", desc := "()I" } : Jvm.MethodName) ({ cls := "PailRow", name := "plan", desc := "()I" } : Jvm.MethodName)) ∈ lw_all := lw_g (lw_at lw_m4 210 rfl) rfl
theorem q1033 : (Jvm.Cond.codeWith ({ cls := "PailRow", name := "plan", desc := "()I" } : Jvm.MethodName) prog_1_method_12_code (2 : Nat) (Option.some Jvm.ClassFile.FieldType.int) [((9 : Nat), (33 : Nat), (34 : Nat), (13 : Nat))]) ∈ lw_all := lw_g (lw_at lw_m4 211 rfl) rfl
theorem q1034 : (Jvm.Cond.methodLink "PailRow" (262 : Nat) ({ cls := "PailRow$PlanReader", name := "read", desc := "()LPailRow$Plan;" } : Jvm.MethodName)) ∈ lw_all := lw_g (lw_at lw_m4 212 rfl) rfl
theorem q1081 : (Jvm.Cond.fieldLinkNest "PailRow" (493 : Nat) "PailRow$Thing" "minute" "I" "PailRow") ∈ lw_tbl := lw_at lw_m5 19 rfl
theorem q1083 : (Jvm.Cond.fieldLinkNest "PailRow" (497 : Nat) "PailRow$Thing" "what" "I" "PailRow") ∈ lw_tbl := lw_at lw_m5 21 rfl
theorem q1085 : (Jvm.Cond.fieldLinkNest "PailRow" (500 : Nat) "PailRow$Thing" "number" "I" "PailRow") ∈ lw_tbl := lw_at lw_m5 23 rfl
theorem q1087 : (Jvm.Cond.fieldLinkNest "PailRow" (505 : Nat) "PailRow$Thing" "many" "I" "PailRow") ∈ lw_tbl := lw_at lw_m5 25 rfl
theorem q1089 : (Jvm.Cond.fieldLinkNest "PailRow" (503 : Nat) "PailRow$Thing" "men" "[I" "PailRow") ∈ lw_tbl := lw_at lw_m5 27 rfl
theorem q1114 : (Jvm.Cond.instanceMethod ({ cls := "PailRow", name := "row", desc := "(I)I" } : Jvm.MethodName)) ∈ lw_all := lw_g (lw_at lw_m5 52 rfl) rfl
theorem q1115 : (Jvm.Cond.selects "PailRow" ({ cls := "PailRow", name := "row", desc := "(I)I" } : Jvm.MethodName) ({ cls := "PailRow", name := "row", desc := "(I)I" } : Jvm.MethodName)) ∈ lw_all := lw_g (lw_at lw_m5 53 rfl) rfl
theorem q1116 : (Jvm.Cond.code ({ cls := "PailRow", name := "row", desc := "(I)I" } : Jvm.MethodName) prog_1_method_18_code (2 : Nat) (Option.some Jvm.ClassFile.FieldType.int)) ∈ lw_all := lw_g (lw_at lw_m5 54 rfl) rfl
theorem q1117 : (Jvm.Cond.methodLink "PailRow" (315 : Nat) ({ cls := "PailRow", name := "areAsked", desc := "(III)Z" } : Jvm.MethodName)) ∈ lw_all := lw_g (lw_at lw_m5 55 rfl) rfl
theorem q1118 : (Jvm.Cond.privateMethod ({ cls := "PailRow", name := "areAsked", desc := "(III)Z" } : Jvm.MethodName)) ∈ lw_tbl := lw_at lw_m5 56 rfl
theorem q1119 : (Jvm.Cond.instanceMethod ({ cls := "PailRow", name := "areAsked", desc := "(III)Z" } : Jvm.MethodName)) ∈ lw_all := lw_g (lw_at lw_m5 57 rfl) rfl
theorem q1120 : (Jvm.Cond.code ({ cls := "PailRow", name := "areAsked", desc := "(III)Z" } : Jvm.MethodName) prog_1_method_16_code (6 : Nat) (Option.some Jvm.ClassFile.FieldType.boolean)) ∈ lw_all := lw_g (lw_at lw_m5 58 rfl) rfl
theorem q1121 : (Jvm.Cond.methodLink "PailRow" (271 : Nat) ({ cls := "PailRow", name := "isIn", desc := "(III)Z" } : Jvm.MethodName)) ∈ lw_all := lw_g (lw_at lw_m5 59 rfl) rfl
theorem q1122 : (Jvm.Cond.methodLink "PailRow" (311 : Nat) ({ cls := "PailRow", name := "one", desc := "(I)I" } : Jvm.MethodName)) ∈ lw_all := lw_g (lw_at lw_m5 60 rfl) rfl
theorem q1123 : (Jvm.Cond.privateMethod ({ cls := "PailRow", name := "one", desc := "(I)I" } : Jvm.MethodName)) ∈ lw_tbl := lw_at lw_m5 61 rfl
theorem q1124 : (Jvm.Cond.instanceMethod ({ cls := "PailRow", name := "one", desc := "(I)I" } : Jvm.MethodName)) ∈ lw_all := lw_g (lw_at lw_m5 62 rfl) rfl
theorem q1125 : (Jvm.Cond.code ({ cls := "PailRow", name := "one", desc := "(I)I" } : Jvm.MethodName) prog_1_method_6_code (2 : Nat) (Option.some Jvm.ClassFile.FieldType.int)) ∈ lw_all := lw_g (lw_at lw_m5 63 rfl) rfl
theorem q1126 : (Jvm.Cond.methodLink "PailRow" (275 : Nat) ({ cls := "PailRow", name := "isMan", desc := "(I)Z" } : Jvm.MethodName)) ∈ lw_all := lw_g (lw_at lw_m5 64 rfl) rfl
theorem q1127 : (Jvm.Cond.privateMethod ({ cls := "PailRow", name := "isMan", desc := "(I)Z" } : Jvm.MethodName)) ∈ lw_tbl := lw_at lw_m5 65 rfl
theorem q1128 : (Jvm.Cond.instanceMethod ({ cls := "PailRow", name := "isMan", desc := "(I)Z" } : Jvm.MethodName)) ∈ lw_all := lw_g (lw_at lw_m5 66 rfl) rfl
theorem q1129 : (Jvm.Cond.code ({ cls := "PailRow", name := "isMan", desc := "(I)Z" } : Jvm.MethodName) prog_1_method_13_code (2 : Nat) (Option.some Jvm.ClassFile.FieldType.boolean)) ∈ lw_all := lw_g (lw_at lw_m5 67 rfl) rfl
theorem q1130 : (Jvm.Cond.methodLink "PailRow" (318 : Nat) ({ cls := "PailRow", name := "areTicks", desc := "(I)Z" } : Jvm.MethodName)) ∈ lw_all := lw_g (lw_at lw_m5 68 rfl) rfl
theorem q1131 : (Jvm.Cond.static ({ cls := "PailRow", name := "areTicks", desc := "(I)Z" } : Jvm.MethodName)) ∈ lw_all := lw_g (lw_at lw_m5 69 rfl) rfl
theorem q1132 : (Jvm.Cond.code ({ cls := "PailRow", name := "areTicks", desc := "(I)Z" } : Jvm.MethodName) prog_1_method_17_code (1 : Nat) (Option.some Jvm.ClassFile.FieldType.boolean)) ∈ lw_all := lw_g (lw_at lw_m5 70 rfl) rfl
theorem q1133 : (Jvm.Cond.methodLink "PailRow" (323 : Nat) ({ cls := "PailRow$Row", name := "begin", desc := "(LPailRow$Yard;[III)V" } : Jvm.MethodName)) ∈ lw_all := lw_g (lw_at lw_m5 71 rfl) rfl
theorem q1143 : (Jvm.Cond.methodLink "PailRow" (327 : Nat) ({ cls := "PailRow$Row", name := "goes", desc := "(I)I" } : Jvm.MethodName)) ∈ lw_all := lw_g (lw_at lw_m5 81 rfl) rfl
theorem q1168 : (Jvm.Cond.static ({ cls := "PailRow", name := "up", desc := "(II)I" } : Jvm.MethodName)) ∈ lw_all := lw_g (lw_at lw_m5 106 rfl) rfl
theorem q1169 : (Jvm.Cond.code ({ cls := "PailRow", name := "up", desc := "(II)I" } : Jvm.MethodName) prog_1_method_9_code (2 : Nat) (Option.some Jvm.ClassFile.FieldType.int)) ∈ lw_all := lw_g (lw_at lw_m5 107 rfl) rfl
theorem q1202 : (Jvm.Cond.methodLink "PailRow" (330 : Nat) ({ cls := "PailRow", name := "keep", desc := "()V" } : Jvm.MethodName)) ∈ lw_all := lw_g (lw_at lw_m5 140 rfl) rfl
theorem q1203 : (Jvm.Cond.privateMethod ({ cls := "PailRow", name := "keep", desc := "()V" } : Jvm.MethodName)) ∈ lw_tbl := lw_at lw_m5 141 rfl
theorem q1204 : (Jvm.Cond.instanceMethod ({ cls := "PailRow", name := "keep", desc := "()V" } : Jvm.MethodName)) ∈ lw_all := lw_g (lw_at lw_m5 142 rfl) rfl
theorem q1205 : (Jvm.Cond.code ({ cls := "PailRow", name := "keep", desc := "()V" } : Jvm.MethodName) prog_1_method_19_code (2 : Nat) (Option.none : Option Jvm.ClassFile.FieldType)) ∈ lw_all := lw_g (lw_at lw_m5 143 rfl) rfl
theorem q1206 : (Jvm.Cond.methodLink "PailRow" (339 : Nat) ({ cls := "PailRow$Row", name := "heap", desc := "()I" } : Jvm.MethodName)) ∈ lw_all := lw_g (lw_at lw_m5 144 rfl) rfl
theorem q1210 : (Jvm.Cond.methodLink "PailRow" (359 : Nat) ({ cls := "java/lang/System", name := "arraycopy", desc := "(Ljava/lang/Object;ILjava/lang/Object;II)V" } : Jvm.MethodName)) ∈ lw_all := lw_g (lw_at lw_m5 148 rfl) rfl
theorem q1212 : (Jvm.Cond.instanceMethod ({ cls := "PailRow", name := "rowBy", desc := "(I)I" } : Jvm.MethodName)) ∈ lw_all := lw_g (lw_at lw_m5 150 rfl) rfl
theorem q1213 : (Jvm.Cond.selects "PailRow" ({ cls := "PailRow", name := "rowBy", desc := "(I)I" } : Jvm.MethodName) ({ cls := "PailRow", name := "rowBy", desc := "(I)I" } : Jvm.MethodName)) ∈ lw_all := lw_g (lw_at lw_m5 151 rfl) rfl
theorem q1214 : (Jvm.Cond.code ({ cls := "PailRow", name := "rowBy", desc := "(I)I" } : Jvm.MethodName) prog_1_method_20_code (2 : Nat) (Option.some Jvm.ClassFile.FieldType.int)) ∈ lw_all := lw_g (lw_at lw_m5 152 rfl) rfl
theorem q1216 : (Jvm.Cond.instanceMethod ({ cls := "PailRow", name := "done", desc := "(I)I" } : Jvm.MethodName)) ∈ lw_all := lw_g (lw_at lw_m5 154 rfl) rfl
theorem q1217 : (Jvm.Cond.selects "PailRow" ({ cls := "PailRow", name := "done", desc := "(I)I" } : Jvm.MethodName) ({ cls := "PailRow", name := "done", desc := "(I)I" } : Jvm.MethodName)) ∈ lw_all := lw_g (lw_at lw_m5 155 rfl) rfl
theorem q1218 : (Jvm.Cond.code ({ cls := "PailRow", name := "done", desc := "(I)I" } : Jvm.MethodName) prog_1_method_21_code (2 : Nat) (Option.some Jvm.ClassFile.FieldType.int)) ∈ lw_all := lw_g (lw_at lw_m5 156 rfl) rfl
theorem q1220 : (Jvm.Cond.instanceMethod ({ cls := "PailRow", name := "period", desc := "()I" } : Jvm.MethodName)) ∈ lw_all := lw_g (lw_at lw_m5 158 rfl) rfl
theorem q1221 : (Jvm.Cond.selects "PailRow" ({ cls := "PailRow", name := "period", desc := "()I" } : Jvm.MethodName) ({ cls := "PailRow", name := "period", desc := "()I" } : Jvm.MethodName)) ∈ lw_all := lw_g (lw_at lw_m5 159 rfl) rfl
theorem q1222 : (Jvm.Cond.code ({ cls := "PailRow", name := "period", desc := "()I" } : Jvm.MethodName) prog_1_method_22_code (1 : Nat) (Option.some Jvm.ClassFile.FieldType.int)) ∈ lw_all := lw_g (lw_at lw_m5 160 rfl) rfl
theorem q1223 : (Jvm.Cond.methodLink "PailRow" (365 : Nat) ({ cls := "PailRow$Row", name := "period", desc := "()I" } : Jvm.MethodName)) ∈ lw_all := lw_g (lw_at lw_m5 161 rfl) rfl
theorem q1228 : (Jvm.Cond.instanceMethod ({ cls := "PailRow", name := "best", desc := "()I" } : Jvm.MethodName)) ∈ lw_all := lw_g (lw_at lw_m5 166 rfl) rfl
theorem q1229 : (Jvm.Cond.selects "PailRow" ({ cls := "PailRow", name := "best", desc := "()I" } : Jvm.MethodName) ({ cls := "PailRow", name := "best", desc := "()I" } : Jvm.MethodName)) ∈ lw_all := lw_g (lw_at lw_m5 167 rfl) rfl
theorem q1230 : (Jvm.Cond.code ({ cls := "PailRow", name := "best", desc := "()I" } : Jvm.MethodName) prog_1_method_23_code (4 : Nat) (Option.some Jvm.ClassFile.FieldType.int)) ∈ lw_all := lw_g (lw_at lw_m5 168 rfl) rfl
theorem q1231 : (Jvm.Cond.constant "PailRow" (368 : Nat) (1000000000 : Int32)) ∈ lw_all := lw_g (lw_at lw_m5 169 rfl) rfl
theorem q1232 : (Jvm.Cond.methodLink "PailRow" (372 : Nat) ({ cls := "PailRow", name := "orders", desc := "(II)V" } : Jvm.MethodName)) ∈ lw_all := lw_g (lw_at lw_m5 170 rfl) rfl
theorem q1233 : (Jvm.Cond.privateMethod ({ cls := "PailRow", name := "orders", desc := "(II)V" } : Jvm.MethodName)) ∈ lw_tbl := lw_at lw_m5 171 rfl
theorem q1234 : (Jvm.Cond.instanceMethod ({ cls := "PailRow", name := "orders", desc := "(II)V" } : Jvm.MethodName)) ∈ lw_all := lw_g (lw_at lw_m5 172 rfl) rfl
theorem q1235 : (Jvm.Cond.code ({ cls := "PailRow", name := "orders", desc := "(II)V" } : Jvm.MethodName) prog_1_method_24_code (4 : Nat) (Option.none : Option Jvm.ClassFile.FieldType)) ∈ lw_all := lw_g (lw_at lw_m5 173 rfl) rfl
theorem q1237 : (Jvm.Cond.instanceMethod ({ cls := "PailRow", name := "bestAt", desc := "(I)I" } : Jvm.MethodName)) ∈ lw_all := lw_g (lw_at lw_m5 175 rfl) rfl
theorem q1238 : (Jvm.Cond.selects "PailRow" ({ cls := "PailRow", name := "bestAt", desc := "(I)I" } : Jvm.MethodName) ({ cls := "PailRow", name := "bestAt", desc := "(I)I" } : Jvm.MethodName)) ∈ lw_all := lw_g (lw_at lw_m5 176 rfl) rfl
theorem q1239 : (Jvm.Cond.code ({ cls := "PailRow", name := "bestAt", desc := "(I)I" } : Jvm.MethodName) prog_1_method_25_code (2 : Nat) (Option.some Jvm.ClassFile.FieldType.int)) ∈ lw_all := lw_g (lw_at lw_m5 177 rfl) rfl
theorem q1241 : (Jvm.Cond.instanceMethod ({ cls := "PailRow", name := "running", desc := "(I)I" } : Jvm.MethodName)) ∈ lw_all := lw_g (lw_at lw_m5 179 rfl) rfl
theorem q1242 : (Jvm.Cond.selects "PailRow" ({ cls := "PailRow", name := "running", desc := "(I)I" } : Jvm.MethodName) ({ cls := "PailRow", name := "running", desc := "(I)I" } : Jvm.MethodName)) ∈ lw_all := lw_g (lw_at lw_m5 180 rfl) rfl
theorem q1243 : (Jvm.Cond.code ({ cls := "PailRow", name := "running", desc := "(I)I" } : Jvm.MethodName) prog_1_method_28_code (2 : Nat) (Option.some Jvm.ClassFile.FieldType.int)) ∈ lw_all := lw_g (lw_at lw_m5 181 rfl) rfl
theorem q1244 : (Jvm.Cond.methodLink "PailRow" (381 : Nat) ({ cls := "PailRow", name := "runs", desc := "([III)I" } : Jvm.MethodName)) ∈ lw_all := lw_g (lw_at lw_m5 182 rfl) rfl
theorem q1245 : (Jvm.Cond.privateMethod ({ cls := "PailRow", name := "runs", desc := "([III)I" } : Jvm.MethodName)) ∈ lw_tbl := lw_at lw_m5 183 rfl
theorem q1246 : (Jvm.Cond.instanceMethod ({ cls := "PailRow", name := "runs", desc := "([III)I" } : Jvm.MethodName)) ∈ lw_all := lw_g (lw_at lw_m5 184 rfl) rfl
theorem q1247 : (Jvm.Cond.code ({ cls := "PailRow", name := "runs", desc := "([III)I" } : Jvm.MethodName) prog_1_method_26_code (4 : Nat) (Option.some Jvm.ClassFile.FieldType.int)) ∈ lw_all := lw_g (lw_at lw_m5 185 rfl) rfl
theorem q1248 : (Jvm.Cond.methodLink "PailRow" (379 : Nat) ({ cls := "PailRow$Runners", name := "begin", desc := "(LPailRow$Yard;[III)V" } : Jvm.MethodName)) ∈ lw_all := lw_g (lw_at lw_m5 186 rfl) rfl
theorem q1254 : (Jvm.Cond.methodLink "PailRow" (380 : Nat) ({ cls := "PailRow$Runners", name := "goes", desc := "(I)I" } : Jvm.MethodName)) ∈ lw_all := lw_g (lw_at lw_m5 192 rfl) rfl
theorem q1258 : (Jvm.Cond.instanceMethod ({ cls := "PailRow", name := "line", desc := "(I)I" } : Jvm.MethodName)) ∈ lw_all := lw_g (lw_at lw_m5 196 rfl) rfl
theorem q1259 : (Jvm.Cond.selects "PailRow" ({ cls := "PailRow", name := "line", desc := "(I)I" } : Jvm.MethodName) ({ cls := "PailRow", name := "line", desc := "(I)I" } : Jvm.MethodName)) ∈ lw_all := lw_g (lw_at lw_m5 197 rfl) rfl
theorem q1260 : (Jvm.Cond.code ({ cls := "PailRow", name := "line", desc := "(I)I" } : Jvm.MethodName) prog_1_method_29_code (3 : Nat) (Option.some Jvm.ClassFile.FieldType.int)) ∈ lw_all := lw_g (lw_at lw_m5 198 rfl) rfl
theorem q1261 : (Jvm.Cond.methodLink "PailRow" (385 : Nat) ({ cls := "PailRow", name := "rows", desc := "([IIII)I" } : Jvm.MethodName)) ∈ lw_all := lw_g (lw_at lw_m5 199 rfl) rfl
theorem q1262 : (Jvm.Cond.privateMethod ({ cls := "PailRow", name := "rows", desc := "([IIII)I" } : Jvm.MethodName)) ∈ lw_tbl := lw_at lw_m5 200 rfl
theorem q1263 : (Jvm.Cond.instanceMethod ({ cls := "PailRow", name := "rows", desc := "([IIII)I" } : Jvm.MethodName)) ∈ lw_all := lw_g (lw_at lw_m5 201 rfl) rfl
theorem q1264 : (Jvm.Cond.code ({ cls := "PailRow", name := "rows", desc := "([IIII)I" } : Jvm.MethodName) prog_1_method_27_code (5 : Nat) (Option.some Jvm.ClassFile.FieldType.int)) ∈ lw_all := lw_g (lw_at lw_m5 202 rfl) rfl
theorem q1266 : (Jvm.Cond.instanceMethod ({ cls := "PailRow", name := "more", desc := "(I)I" } : Jvm.MethodName)) ∈ lw_all := lw_g (lw_at lw_m5 204 rfl) rfl
theorem q1267 : (Jvm.Cond.selects "PailRow" ({ cls := "PailRow", name := "more", desc := "(I)I" } : Jvm.MethodName) ({ cls := "PailRow", name := "more", desc := "(I)I" } : Jvm.MethodName)) ∈ lw_all := lw_g (lw_at lw_m5 205 rfl) rfl
theorem q1268 : (Jvm.Cond.code ({ cls := "PailRow", name := "more", desc := "(I)I" } : Jvm.MethodName) prog_1_method_33_code (3 : Nat) (Option.some Jvm.ClassFile.FieldType.int)) ∈ lw_all := lw_g (lw_at lw_m5 206 rfl) rfl
theorem q1269 : (Jvm.Cond.methodLink "PailRow" (400 : Nat) ({ cls := "PailRow", name := "slowest", desc := "()I" } : Jvm.MethodName)) ∈ lw_all := lw_g (lw_at lw_m5 207 rfl) rfl
theorem q1270 : (Jvm.Cond.privateMethod ({ cls := "PailRow", name := "slowest", desc := "()I" } : Jvm.MethodName)) ∈ lw_tbl := lw_at lw_m5 208 rfl
theorem q1271 : (Jvm.Cond.instanceMethod ({ cls := "PailRow", name := "slowest", desc := "()I" } : Jvm.MethodName)) ∈ lw_all := lw_g (lw_at lw_m5 209 rfl) rfl
theorem q1272 : (Jvm.Cond.code ({ cls := "PailRow", name := "slowest", desc := "()I" } : Jvm.MethodName) prog_1_method_32_code (3 : Nat) (Option.some Jvm.ClassFile.FieldType.int)) ∈ lw_all := lw_g (lw_at lw_m5 210 rfl) rfl
theorem q1273 : (Jvm.Cond.methodLink "PailRow" (397 : Nat) ({ cls := "PailRow", name := "timeBy", desc := "(I)I" } : Jvm.MethodName)) ∈ lw_all := lw_g (lw_at lw_m5 211 rfl) rfl
theorem q1274 : (Jvm.Cond.privateMethod ({ cls := "PailRow", name := "timeBy", desc := "(I)I" } : Jvm.MethodName)) ∈ lw_tbl := lw_at lw_m5 212 rfl
theorem q1275 : (Jvm.Cond.instanceMethod ({ cls := "PailRow", name := "timeBy", desc := "(I)I" } : Jvm.MethodName)) ∈ lw_all := lw_g (lw_at lw_m5 213 rfl) rfl
theorem q1276 : (Jvm.Cond.code ({ cls := "PailRow", name := "timeBy", desc := "(I)I" } : Jvm.MethodName) prog_1_method_31_code (2 : Nat) (Option.some Jvm.ClassFile.FieldType.int)) ∈ lw_all := lw_g (lw_at lw_m5 214 rfl) rfl
theorem q1277 : (Jvm.Cond.methodLink "PailRow" (390 : Nat) ({ cls := "PailRow$Row", name := "time", desc := "(I)I" } : Jvm.MethodName)) ∈ lw_all := lw_g (lw_at lw_m5 215 rfl) rfl
theorem q1278 : (Jvm.Cond.methodLink "PailRow" (393 : Nat) ({ cls := "PailRow", name := "up", desc := "(II)I" } : Jvm.MethodName)) ∈ lw_all := lw_g (lw_at lw_m5 216 rfl) rfl
theorem q1280 : (Jvm.Cond.instanceMethod ({ cls := "PailRow", name := "moreAt", desc := "(I)I" } : Jvm.MethodName)) ∈ lw_all := lw_g (lw_at lw_m5 218 rfl) rfl
theorem q1281 : (Jvm.Cond.selects "PailRow" ({ cls := "PailRow", name := "moreAt", desc := "(I)I" } : Jvm.MethodName) ({ cls := "PailRow", name := "moreAt", desc := "(I)I" } : Jvm.MethodName)) ∈ lw_all := lw_g (lw_at lw_m5 219 rfl) rfl
theorem q1282 : (Jvm.Cond.code ({ cls := "PailRow", name := "moreAt", desc := "(I)I" } : Jvm.MethodName) prog_1_method_34_code (2 : Nat) (Option.some Jvm.ClassFile.FieldType.int)) ∈ lw_all := lw_g (lw_at lw_m5 220 rfl) rfl
theorem q1284 : (Jvm.Cond.instanceMethod ({ cls := "PailRow", name := "relief", desc := "()I" } : Jvm.MethodName)) ∈ lw_all := lw_g (lw_at lw_m5 222 rfl) rfl
theorem q1285 : (Jvm.Cond.selects "PailRow" ({ cls := "PailRow", name := "relief", desc := "()I" } : Jvm.MethodName) ({ cls := "PailRow", name := "relief", desc := "()I" } : Jvm.MethodName)) ∈ lw_all := lw_g (lw_at lw_m5 223 rfl) rfl
theorem q1286 : (Jvm.Cond.code ({ cls := "PailRow", name := "relief", desc := "()I" } : Jvm.MethodName) prog_1_method_35_code (2 : Nat) (Option.some Jvm.ClassFile.FieldType.int)) ∈ lw_all := lw_g (lw_at lw_m5 224 rfl) rfl
theorem q1287 : (Jvm.Cond.methodLink "PailRow" (406 : Nat) ({ cls := "PailRow", name := "relieves", desc := "(I)Z" } : Jvm.MethodName)) ∈ lw_all := lw_g (lw_at lw_m5 225 rfl) rfl
theorem q1288 : (Jvm.Cond.privateMethod ({ cls := "PailRow", name := "relieves", desc := "(I)Z" } : Jvm.MethodName)) ∈ lw_tbl := lw_at lw_m5 226 rfl
theorem q1289 : (Jvm.Cond.instanceMethod ({ cls := "PailRow", name := "relieves", desc := "(I)Z" } : Jvm.MethodName)) ∈ lw_all := lw_g (lw_at lw_m5 227 rfl) rfl
theorem q1290 : (Jvm.Cond.code ({ cls := "PailRow", name := "relieves", desc := "(I)Z" } : Jvm.MethodName) prog_1_method_36_code (4 : Nat) (Option.some Jvm.ClassFile.FieldType.boolean)) ∈ lw_all := lw_g (lw_at lw_m5 228 rfl) rfl
theorem q1291 : (Jvm.Cond.methodLink "PailRow" (409 : Nat) ({ cls := "java/lang/Math", name := "min", desc := "(II)I" } : Jvm.MethodName)) ∈ lw_all := lw_g (lw_at lw_m5 229 rfl) rfl
theorem q1293 : (Jvm.Cond.instanceMethod ({ cls := "PailRow", name := "hooks", desc := "(I)I" } : Jvm.MethodName)) ∈ lw_all := lw_g (lw_at lw_m5 231 rfl) rfl
theorem q1294 : (Jvm.Cond.selects "PailRow" ({ cls := "PailRow", name := "hooks", desc := "(I)I" } : Jvm.MethodName) ({ cls := "PailRow", name := "hooks", desc := "(I)I" } : Jvm.MethodName)) ∈ lw_all := lw_g (lw_at lw_m5 232 rfl) rfl
theorem q1295 : (Jvm.Cond.code ({ cls := "PailRow", name := "hooks", desc := "(I)I" } : Jvm.MethodName) prog_1_method_37_code (3 : Nat) (Option.some Jvm.ClassFile.FieldType.int)) ∈ lw_all := lw_g (lw_at lw_m5 233 rfl) rfl
theorem q1296 : (Jvm.Cond.methodLink "PailRow" (417 : Nat) ({ cls := "PailRow", name := "hang", desc := "(III)V" } : Jvm.MethodName)) ∈ lw_all := lw_g (lw_at lw_m5 234 rfl) rfl
theorem q1297 : (Jvm.Cond.privateMethod ({ cls := "PailRow", name := "hang", desc := "(III)V" } : Jvm.MethodName)) ∈ lw_tbl := lw_at lw_m5 235 rfl
theorem q1298 : (Jvm.Cond.instanceMethod ({ cls := "PailRow", name := "hang", desc := "(III)V" } : Jvm.MethodName)) ∈ lw_all := lw_g (lw_at lw_m5 236 rfl) rfl
theorem q1299 : (Jvm.Cond.code ({ cls := "PailRow", name := "hang", desc := "(III)V" } : Jvm.MethodName) prog_1_method_38_code (5 : Nat) (Option.none : Option Jvm.ClassFile.FieldType)) ∈ lw_all := lw_g (lw_at lw_m5 237 rfl) rfl
theorem q1300 : (Jvm.Cond.methodLink "PailRow" (424 : Nat) ({ cls := "PailRow", name := "wayBy", desc := "(I)I" } : Jvm.MethodName)) ∈ lw_all := lw_g (lw_at lw_m5 238 rfl) rfl
theorem q1301 : (Jvm.Cond.privateMethod ({ cls := "PailRow", name := "wayBy", desc := "(I)I" } : Jvm.MethodName)) ∈ lw_tbl := lw_at lw_m5 239 rfl
theorem q1302 : (Jvm.Cond.instanceMethod ({ cls := "PailRow", name := "wayBy", desc := "(I)I" } : Jvm.MethodName)) ∈ lw_all := lw_g (lw_at lw_m6 0 rfl) rfl
theorem q1303 : (Jvm.Cond.code ({ cls := "PailRow", name := "wayBy", desc := "(I)I" } : Jvm.MethodName) prog_1_method_39_code (6 : Nat) (Option.some Jvm.ClassFile.FieldType.int)) ∈ lw_all := lw_g (lw_at lw_m6 1 rfl) rfl
theorem q1304 : (Jvm.Cond.methodLink "PailRow" (427 : Nat) ({ cls := "java/lang/Math", name := "abs", desc := "(I)I" } : Jvm.MethodName)) ∈ lw_all := lw_g (lw_at lw_m6 2 rfl) rfl
theorem q1307 : (Jvm.Cond.methodLink "PailRow" (430 : Nat) ({ cls := "java/lang/Math", name := "max", desc := "(II)I" } : Jvm.MethodName)) ∈ lw_all := lw_g (lw_at lw_m6 5 rfl) rfl
theorem q1309 : (Jvm.Cond.instanceMethod ({ cls := "PailRow", name := "hookAt", desc := "(I)I" } : Jvm.MethodName)) ∈ lw_all := lw_g (lw_at lw_m6 7 rfl) rfl
theorem q1310 : (Jvm.Cond.selects "PailRow" ({ cls := "PailRow", name := "hookAt", desc := "(I)I" } : Jvm.MethodName) ({ cls := "PailRow", name := "hookAt", desc := "(I)I" } : Jvm.MethodName)) ∈ lw_all := lw_g (lw_at lw_m6 8 rfl) rfl
theorem q1311 : (Jvm.Cond.code ({ cls := "PailRow", name := "hookAt", desc := "(I)I" } : Jvm.MethodName) prog_1_method_40_code (2 : Nat) (Option.some Jvm.ClassFile.FieldType.int)) ∈ lw_all := lw_g (lw_at lw_m6 9 rfl) rfl
theorem q1313 : (Jvm.Cond.instanceMethod ({ cls := "PailRow", name := "fire", desc := "(IIII)I" } : Jvm.MethodName)) ∈ lw_all := lw_g (lw_at lw_m6 11 rfl) rfl
theorem q1314 : (Jvm.Cond.selects "PailRow" ({ cls := "PailRow", name := "fire", desc := "(IIII)I" } : Jvm.MethodName) ({ cls := "PailRow", name := "fire", desc := "(IIII)I" } : Jvm.MethodName)) ∈ lw_all := lw_g (lw_at lw_m6 12 rfl) rfl
theorem q1315 : (Jvm.Cond.code ({ cls := "PailRow", name := "fire", desc := "(IIII)I" } : Jvm.MethodName) prog_1_method_42_code (6 : Nat) (Option.some Jvm.ClassFile.FieldType.int)) ∈ lw_all := lw_g (lw_at lw_m6 13 rfl) rfl
theorem q1316 : (Jvm.Cond.methodLink "PailRow" (433 : Nat) ({ cls := "PailRow", name := "areLitres", desc := "(I)Z" } : Jvm.MethodName)) ∈ lw_all := lw_g (lw_at lw_m6 14 rfl) rfl
theorem q1317 : (Jvm.Cond.static ({ cls := "PailRow", name := "areLitres", desc := "(I)Z" } : Jvm.MethodName)) ∈ lw_all := lw_g (lw_at lw_m6 15 rfl) rfl
theorem q1318 : (Jvm.Cond.code ({ cls := "PailRow", name := "areLitres", desc := "(I)Z" } : Jvm.MethodName) prog_1_method_41_code (1 : Nat) (Option.some Jvm.ClassFile.FieldType.boolean)) ∈ lw_all := lw_g (lw_at lw_m6 16 rfl) rfl
theorem q1319 : (Jvm.Cond.methodLink "PailRow" (436 : Nat) ({ cls := "PailRow$Yard", name := "isAim", desc := "(I)Z" } : Jvm.MethodName)) ∈ lw_all := lw_g (lw_at lw_m6 17 rfl) rfl
theorem q1320 : (Jvm.Cond.methodLink "PailRow" (439 : Nat) ({ cls := "PailRow$Barn", name := "begin", desc := "(LPailRow$Yard;)V" } : Jvm.MethodName)) ∈ lw_all := lw_g (lw_at lw_m6 18 rfl) rfl
theorem q1324 : (Jvm.Cond.methodLink "PailRow" (445 : Nat) ({ cls := "PailRow$Barn", name := "burning", desc := "()I" } : Jvm.MethodName)) ∈ lw_all := lw_g (lw_at lw_m6 22 rfl) rfl
theorem q1328 : (Jvm.Cond.methodLink "PailRow" (450 : Nat) ({ cls := "PailRow$Barn", name := "be", desc := "(LPailRow$Barn;)V" } : Jvm.MethodName)) ∈ lw_all := lw_g (lw_at lw_m6 26 rfl) rfl
theorem q1333 : (Jvm.Cond.methodLink "PailRow" (454 : Nat) ({ cls := "PailRow$Barn", name := "aimed", desc := "(I)I" } : Jvm.MethodName)) ∈ lw_all := lw_g (lw_at lw_m6 31 rfl) rfl
theorem q1350 : (Jvm.Cond.methodLink "PailRow" (457 : Nat) ({ cls := "PailRow$Barn", name := "minute", desc := "(II)V" } : Jvm.MethodName)) ∈ lw_all := lw_g (lw_at lw_m6 48 rfl) rfl
theorem q1355 : (Jvm.Cond.instanceMethod ({ cls := "PailRow", name := "fireAt", desc := "(III)I" } : Jvm.MethodName)) ∈ lw_all := lw_g (lw_at lw_m6 53 rfl) rfl
theorem q1356 : (Jvm.Cond.selects "PailRow" ({ cls := "PailRow", name := "fireAt", desc := "(III)I" } : Jvm.MethodName) ({ cls := "PailRow", name := "fireAt", desc := "(III)I" } : Jvm.MethodName)) ∈ lw_all := lw_g (lw_at lw_m6 54 rfl) rfl
theorem q1357 : (Jvm.Cond.code ({ cls := "PailRow", name := "fireAt", desc := "(III)I" } : Jvm.MethodName) prog_1_method_43_code (5 : Nat) (Option.some Jvm.ClassFile.FieldType.int)) ∈ lw_all := lw_g (lw_at lw_m6 55 rfl) rfl
theorem q1358 : (Jvm.Cond.methodLink "PailRow" (298 : Nat) ({ cls := "PailRow$Yard", name := "isCell", desc := "(II)Z" } : Jvm.MethodName)) ∈ lw_all := lw_g (lw_at lw_m6 56 rfl) rfl
theorem q1360 : (Jvm.Cond.instanceMethod ({ cls := "PailRow", name := "out", desc := "()I" } : Jvm.MethodName)) ∈ lw_all := lw_g (lw_at lw_m6 58 rfl) rfl
theorem q1361 : (Jvm.Cond.selects "PailRow" ({ cls := "PailRow", name := "out", desc := "()I" } : Jvm.MethodName) ({ cls := "PailRow", name := "out", desc := "()I" } : Jvm.MethodName)) ∈ lw_all := lw_g (lw_at lw_m6 59 rfl) rfl
theorem q1362 : (Jvm.Cond.code ({ cls := "PailRow", name := "out", desc := "()I" } : Jvm.MethodName) prog_1_method_44_code (1 : Nat) (Option.some Jvm.ClassFile.FieldType.int)) ∈ lw_all := lw_g (lw_at lw_m6 60 rfl) rfl
theorem q1364 : (Jvm.Cond.instanceMethod ({ cls := "PailRow", name := "aims", desc := "(II)I" } : Jvm.MethodName)) ∈ lw_all := lw_g (lw_at lw_m6 62 rfl) rfl
theorem q1365 : (Jvm.Cond.selects "PailRow" ({ cls := "PailRow", name := "aims", desc := "(II)I" } : Jvm.MethodName) ({ cls := "PailRow", name := "aims", desc := "(II)I" } : Jvm.MethodName)) ∈ lw_all := lw_g (lw_at lw_m6 63 rfl) rfl
theorem q1366 : (Jvm.Cond.code ({ cls := "PailRow", name := "aims", desc := "(II)I" } : Jvm.MethodName) prog_1_method_45_code (3 : Nat) (Option.some Jvm.ClassFile.FieldType.int)) ∈ lw_all := lw_g (lw_at lw_m6 64 rfl) rfl
theorem q1367 : (Jvm.Cond.methodLink "PailRow" (472 : Nat) ({ cls := "PailRow", name := "tries", desc := "(III)V" } : Jvm.MethodName)) ∈ lw_all := lw_g (lw_at lw_m6 65 rfl) rfl
theorem q1368 : (Jvm.Cond.privateMethod ({ cls := "PailRow", name := "tries", desc := "(III)V" } : Jvm.MethodName)) ∈ lw_tbl := lw_at lw_m6 66 rfl
theorem q1369 : (Jvm.Cond.instanceMethod ({ cls := "PailRow", name := "tries", desc := "(III)V" } : Jvm.MethodName)) ∈ lw_all := lw_g (lw_at lw_m6 67 rfl) rfl
theorem q1370 : (Jvm.Cond.code ({ cls := "PailRow", name := "tries", desc := "(III)V" } : Jvm.MethodName) prog_1_method_46_code (6 : Nat) (Option.none : Option Jvm.ClassFile.FieldType)) ∈ lw_all := lw_g (lw_at lw_m6 68 rfl) rfl
theorem q1371 : (Jvm.Cond.methodLink "PailRow" (478 : Nat) ({ cls := "PailRow", name := "next", desc := "(IIIII)V" } : Jvm.MethodName)) ∈ lw_all := lw_g (lw_at lw_m6 69 rfl) rfl
theorem q1372 : (Jvm.Cond.privateMethod ({ cls := "PailRow", name := "next", desc := "(IIIII)V" } : Jvm.MethodName)) ∈ lw_tbl := lw_at lw_m6 70 rfl
theorem q1373 : (Jvm.Cond.instanceMethod ({ cls := "PailRow", name := "next", desc := "(IIIII)V" } : Jvm.MethodName)) ∈ lw_all := lw_g (lw_at lw_m6 71 rfl) rfl
theorem q1374 : (Jvm.Cond.code ({ cls := "PailRow", name := "next", desc := "(IIIII)V" } : Jvm.MethodName) prog_1_method_47_code (6 : Nat) (Option.none : Option Jvm.ClassFile.FieldType)) ∈ lw_all := lw_g (lw_at lw_m6 72 rfl) rfl
theorem q1376 : (Jvm.Cond.instanceMethod ({ cls := "PailRow", name := "aimAt", desc := "(I)I" } : Jvm.MethodName)) ∈ lw_all := lw_g (lw_at lw_m6 74 rfl) rfl
theorem q1377 : (Jvm.Cond.selects "PailRow" ({ cls := "PailRow", name := "aimAt", desc := "(I)I" } : Jvm.MethodName) ({ cls := "PailRow", name := "aimAt", desc := "(I)I" } : Jvm.MethodName)) ∈ lw_all := lw_g (lw_at lw_m6 75 rfl) rfl
theorem q1378 : (Jvm.Cond.code ({ cls := "PailRow", name := "aimAt", desc := "(I)I" } : Jvm.MethodName) prog_1_method_48_code (2 : Nat) (Option.some Jvm.ClassFile.FieldType.int)) ∈ lw_all := lw_g (lw_at lw_m6 76 rfl) rfl
theorem q1380 : (Jvm.Cond.instanceMethod ({ cls := "PailRow", name := "give", desc := "(I)I" } : Jvm.MethodName)) ∈ lw_all := lw_g (lw_at lw_m6 78 rfl) rfl
theorem q1381 : (Jvm.Cond.selects "PailRow" ({ cls := "PailRow", name := "give", desc := "(I)I" } : Jvm.MethodName) ({ cls := "PailRow", name := "give", desc := "(I)I" } : Jvm.MethodName)) ∈ lw_all := lw_g (lw_at lw_m6 79 rfl) rfl
theorem q1382 : (Jvm.Cond.code ({ cls := "PailRow", name := "give", desc := "(I)I" } : Jvm.MethodName) prog_1_method_50_code (6 : Nat) (Option.some Jvm.ClassFile.FieldType.int)) ∈ lw_all := lw_g (lw_at lw_m6 80 rfl) rfl
theorem q1383 : (Jvm.Cond.methodLink "PailRow" (484 : Nat) ({ cls := "PailRow", name := "lostBy", desc := "(II)I" } : Jvm.MethodName)) ∈ lw_all := lw_g (lw_at lw_m6 81 rfl) rfl
theorem q1384 : (Jvm.Cond.privateMethod ({ cls := "PailRow", name := "lostBy", desc := "(II)I" } : Jvm.MethodName)) ∈ lw_tbl := lw_at lw_m6 82 rfl
theorem q1385 : (Jvm.Cond.instanceMethod ({ cls := "PailRow", name := "lostBy", desc := "(II)I" } : Jvm.MethodName)) ∈ lw_all := lw_g (lw_at lw_m6 83 rfl) rfl
theorem q1386 : (Jvm.Cond.code ({ cls := "PailRow", name := "lostBy", desc := "(II)I" } : Jvm.MethodName) prog_1_method_49_code (5 : Nat) (Option.some Jvm.ClassFile.FieldType.int)) ∈ lw_all := lw_g (lw_at lw_m6 84 rfl) rfl
theorem q1387 : (Jvm.Cond.methodLink "PailRow" (482 : Nat) ({ cls := "PailRow$Barn", name := "give", desc := "(I)I" } : Jvm.MethodName)) ∈ lw_all := lw_g (lw_at lw_m6 85 rfl) rfl
theorem q1392 : (Jvm.Cond.instanceMethod ({ cls := "PailRow", name := "enough", desc := "(II)I" } : Jvm.MethodName)) ∈ lw_all := lw_g (lw_at lw_m6 90 rfl) rfl
theorem q1393 : (Jvm.Cond.selects "PailRow" ({ cls := "PailRow", name := "enough", desc := "(II)I" } : Jvm.MethodName) ({ cls := "PailRow", name := "enough", desc := "(II)I" } : Jvm.MethodName)) ∈ lw_all := lw_g (lw_at lw_m6 91 rfl) rfl
theorem q1394 : (Jvm.Cond.code ({ cls := "PailRow", name := "enough", desc := "(II)I" } : Jvm.MethodName) prog_1_method_51_code (5 : Nat) (Option.some Jvm.ClassFile.FieldType.int)) ∈ lw_all := lw_g (lw_at lw_m6 92 rfl) rfl
theorem q1396 : (Jvm.Cond.instanceMethod ({ cls := "PailRow", name := "night", desc := "(II)I" } : Jvm.MethodName)) ∈ lw_all := lw_g (lw_at lw_m6 94 rfl) rfl
theorem q1397 : (Jvm.Cond.selects "PailRow" ({ cls := "PailRow", name := "night", desc := "(II)I" } : Jvm.MethodName) ({ cls := "PailRow", name := "night", desc := "(II)I" } : Jvm.MethodName)) ∈ lw_all := lw_g (lw_at lw_m6 95 rfl) rfl
theorem q1398 : (Jvm.Cond.code ({ cls := "PailRow", name := "night", desc := "(II)I" } : Jvm.MethodName) prog_1_method_53_code (3 : Nat) (Option.some Jvm.ClassFile.FieldType.int)) ∈ lw_all := lw_g (lw_at lw_m6 96 rfl) rfl
theorem q1399 : (Jvm.Cond.methodLink "PailRow" (511 : Nat) ({ cls := "PailRow", name := "nights", desc := "()V" } : Jvm.MethodName)) ∈ lw_all := lw_g (lw_at lw_m6 97 rfl) rfl
theorem q1400 : (Jvm.Cond.privateMethod ({ cls := "PailRow", name := "nights", desc := "()V" } : Jvm.MethodName)) ∈ lw_tbl := lw_at lw_m6 98 rfl
theorem q1401 : (Jvm.Cond.instanceMethod ({ cls := "PailRow", name := "nights", desc := "()V" } : Jvm.MethodName)) ∈ lw_all := lw_g (lw_at lw_m6 99 rfl) rfl
theorem q1402 : (Jvm.Cond.code ({ cls := "PailRow", name := "nights", desc := "()V" } : Jvm.MethodName) prog_1_method_52_code (7 : Nat) (Option.none : Option Jvm.ClassFile.FieldType)) ∈ lw_all := lw_g (lw_at lw_m6 100 rfl) rfl
theorem q1403 : (Jvm.Cond.methodLink "PailRow" (506 : Nat) ({ cls := "PailRow$Team", name := "begin", desc := "(LPailRow$Yard;[III)V" } : Jvm.MethodName)) ∈ lw_all := lw_g (lw_at lw_m6 101 rfl) rfl
theorem q1404 : (Jvm.Cond.methodLink "PailRow" (509 : Nat) ({ cls := "PailRow$Team", name := "goes", desc := "(I)I" } : Jvm.MethodName)) ∈ lw_all := lw_g (lw_at lw_m6 102 rfl) rfl
theorem q1406 : (Jvm.Cond.instanceMethod ({ cls := "PailRow", name := "sentence", desc := "()I" } : Jvm.MethodName)) ∈ lw_all := lw_g (lw_at lw_m6 104 rfl) rfl
theorem q1407 : (Jvm.Cond.selects "PailRow" ({ cls := "PailRow", name := "sentence", desc := "()I" } : Jvm.MethodName) ({ cls := "PailRow", name := "sentence", desc := "()I" } : Jvm.MethodName)) ∈ lw_all := lw_g (lw_at lw_m6 105 rfl) rfl
theorem q1408 : (Jvm.Cond.codeWith ({ cls := "PailRow", name := "sentence", desc := "()I" } : Jvm.MethodName) prog_1_method_54_code (2 : Nat) (Option.some Jvm.ClassFile.FieldType.int) [((9 : Nat), (30 : Nat), (31 : Nat), (13 : Nat))]) ∈ lw_all := lw_g (lw_at lw_m6 106 rfl) rfl
theorem q1409 : (Jvm.Cond.methodLink "PailRow" (514 : Nat) ({ cls := "PailRow$SentenceReader", name := "read", desc := "()LPailRow$Cond;" } : Jvm.MethodName)) ∈ lw_all := lw_g (lw_at lw_m6 107 rfl) rfl
theorem q1518 : (Jvm.Cond.instanceMethod ({ cls := "PailRow", name := "said", desc := "(I)I" } : Jvm.MethodName)) ∈ lw_all := lw_g (lw_at lw_m6 216 rfl) rfl
theorem q1519 : (Jvm.Cond.selects "PailRow" ({ cls := "PailRow", name := "said", desc := "(I)I" } : Jvm.MethodName) ({ cls := "PailRow", name := "said", desc := "(I)I" } : Jvm.MethodName)) ∈ lw_all := lw_g (lw_at lw_m6 217 rfl) rfl
theorem q1520 : (Jvm.Cond.code ({ cls := "PailRow", name := "said", desc := "(I)I" } : Jvm.MethodName) prog_1_method_55_code (4 : Nat) (Option.some Jvm.ClassFile.FieldType.int)) ∈ lw_all := lw_g (lw_at lw_m6 218 rfl) rfl
theorem q1521 : (Jvm.Cond.methodLink "PailRow" (520 : Nat) ({ cls := "PailRow$Cond", name := "is", desc := "(LPailRow;I)Z" } : Jvm.MethodName)) ∈ lw_all := lw_g (lw_at lw_m6 219 rfl) rfl
theorem q1547 : (Jvm.Cond.instanceMethod ({ cls := "PailRow", name := "image", desc := "(I)Z" } : Jvm.MethodName)) ∈ lw_all := lw_g (lw_at lw_m7 5 rfl) rfl
theorem q1548 : (Jvm.Cond.selects "PailRow" ({ cls := "PailRow", name := "image", desc := "(I)Z" } : Jvm.MethodName) ({ cls := "PailRow", name := "image", desc := "(I)Z" } : Jvm.MethodName)) ∈ lw_all := lw_g (lw_at lw_m7 6 rfl) rfl
theorem q1549 : (Jvm.Cond.code ({ cls := "PailRow", name := "image", desc := "(I)Z" } : Jvm.MethodName) prog_1_method_56_code (2 : Nat) (Option.some Jvm.ClassFile.FieldType.boolean)) ∈ lw_all := lw_g (lw_at lw_m7 7 rfl) rfl
theorem q1550 : (Jvm.Cond.methodLink "PailRow" (526 : Nat) ({ cls := "PailRow$State", name := "be", desc := "(LPailRow$State;)V" } : Jvm.MethodName)) ∈ lw_all := lw_g (lw_at lw_m7 8 rfl) rfl
theorem q1555 : (Jvm.Cond.instanceMethod ({ cls := "PailRow", name := "restore", desc := "(I)Z" } : Jvm.MethodName)) ∈ lw_all := lw_g (lw_at lw_m7 13 rfl) rfl
theorem q1556 : (Jvm.Cond.selects "PailRow" ({ cls := "PailRow", name := "restore", desc := "(I)Z" } : Jvm.MethodName) ({ cls := "PailRow", name := "restore", desc := "(I)Z" } : Jvm.MethodName)) ∈ lw_all := lw_g (lw_at lw_m7 14 rfl) rfl
theorem q1557 : (Jvm.Cond.code ({ cls := "PailRow", name := "restore", desc := "(I)Z" } : Jvm.MethodName) prog_1_method_57_code (2 : Nat) (Option.some Jvm.ClassFile.FieldType.boolean)) ∈ lw_all := lw_g (lw_at lw_m7 15 rfl) rfl
theorem q1559 : (Jvm.Cond.instanceMethod ({ cls := "PailRow", name := "count", desc := "(I)I" } : Jvm.MethodName)) ∈ lw_all := lw_g (lw_at lw_m7 17 rfl) rfl
theorem q1560 : (Jvm.Cond.selects "PailRow" ({ cls := "PailRow", name := "count", desc := "(I)I" } : Jvm.MethodName) ({ cls := "PailRow", name := "count", desc := "(I)I" } : Jvm.MethodName)) ∈ lw_all := lw_g (lw_at lw_m7 18 rfl) rfl
theorem q1561 : (Jvm.Cond.code ({ cls := "PailRow", name := "count", desc := "(I)I" } : Jvm.MethodName) prog_1_method_58_code (2 : Nat) (Option.some Jvm.ClassFile.FieldType.int)) ∈ lw_all := lw_g (lw_at lw_m7 19 rfl) rfl
theorem q1567 : (Jvm.Cond.instanceMethod ({ cls := "PailRow", name := "man", desc := "(II)I" } : Jvm.MethodName)) ∈ lw_all := lw_g (lw_at lw_m7 25 rfl) rfl
theorem q1568 : (Jvm.Cond.selects "PailRow" ({ cls := "PailRow", name := "man", desc := "(II)I" } : Jvm.MethodName) ({ cls := "PailRow", name := "man", desc := "(II)I" } : Jvm.MethodName)) ∈ lw_all := lw_g (lw_at lw_m7 26 rfl) rfl
theorem q1569 : (Jvm.Cond.code ({ cls := "PailRow", name := "man", desc := "(II)I" } : Jvm.MethodName) prog_1_method_14_code (4 : Nat) (Option.some Jvm.ClassFile.FieldType.int)) ∈ lw_all := lw_g (lw_at lw_m7 27 rfl) rfl
theorem q1570 : (Jvm.Cond.methodLink "PailRow" (279 : Nat) ({ cls := "PailRow", name := "must", desc := "(Z)V" } : Jvm.MethodName)) ∈ lw_all := lw_g (lw_at lw_m7 28 rfl) rfl
theorem q1571 : (Jvm.Cond.static ({ cls := "PailRow", name := "must", desc := "(Z)V" } : Jvm.MethodName)) ∈ lw_all := lw_g (lw_at lw_m7 29 rfl) rfl
theorem q1572 : (Jvm.Cond.code ({ cls := "PailRow", name := "must", desc := "(Z)V" } : Jvm.MethodName) prog_1_method_8_code (1 : Nat) (Option.none : Option Jvm.ClassFile.FieldType)) ∈ lw_all := lw_g (lw_at lw_m7 30 rfl) rfl
theorem q1573 : (Jvm.Cond.classLink "PailRow" (225 : Nat) "java/util/NoSuchElementException") ∈ lw_all := lw_g (lw_at lw_m7 31 rfl) rfl
theorem q1584 : (Jvm.Cond.methodLink "PailRow" (227 : Nat) ({ cls := "java/util/NoSuchElementException", name := "<init>", desc := "()V" } : Jvm.MethodName)) ∈ lw_all := lw_g (lw_at lw_m7 42 rfl) rfl
theorem q1600 : (Jvm.Cond.instanceMethod ({ cls := "PailRow", name := "cell", desc := "(III)I" } : Jvm.MethodName)) ∈ lw_all := lw_g (lw_at lw_m7 58 rfl) rfl
theorem q1601 : (Jvm.Cond.selects "PailRow" ({ cls := "PailRow", name := "cell", desc := "(III)I" } : Jvm.MethodName) ({ cls := "PailRow", name := "cell", desc := "(III)I" } : Jvm.MethodName)) ∈ lw_all := lw_g (lw_at lw_m7 59 rfl) rfl
theorem q1602 : (Jvm.Cond.code ({ cls := "PailRow", name := "cell", desc := "(III)I" } : Jvm.MethodName) prog_1_method_15_code (4 : Nat) (Option.some Jvm.ClassFile.FieldType.int)) ∈ lw_all := lw_g (lw_at lw_m7 60 rfl) rfl
theorem q1607 : (Jvm.Cond.instanceMethod ({ cls := "PailRow", name := "cost", desc := "(II)I" } : Jvm.MethodName)) ∈ lw_all := lw_g (lw_at lw_m7 65 rfl) rfl
theorem q1608 : (Jvm.Cond.selects "PailRow" ({ cls := "PailRow", name := "cost", desc := "(II)I" } : Jvm.MethodName) ({ cls := "PailRow", name := "cost", desc := "(II)I" } : Jvm.MethodName)) ∈ lw_all := lw_g (lw_at lw_m7 66 rfl) rfl
theorem q1609 : (Jvm.Cond.code ({ cls := "PailRow", name := "cost", desc := "(II)I" } : Jvm.MethodName) prog_1_method_30_code (5 : Nat) (Option.some Jvm.ClassFile.FieldType.int)) ∈ lw_all := lw_g (lw_at lw_m7 67 rfl) rfl
theorem q2348 : (Jvm.Cond.castable "PailRow" "java/lang/Object") ∈ lw_tbl := lw_at lw_m10 86 rfl
theorem in_X1 : ∀ w ∈ wsX10, w ∈ lw_all := lw_in wsX10 [708, 710, 712, 714, 716, 718, 720, 722, 724, 726, 728, 730, 732, 734, 736, 738, 740, 742, 744, 746, 748, 750, 752, 754, 756, 758, 760, 762, 764, 766, 768, 770, 772, 774, 776, 778, 780, 782, 784, 786, 788, 790, 792, 794, 796, 798, 800, 802, 804, 806, 808, 810] (by decide +kernel) (by decide +kernel)
