/-! PailRowModel -/
set_option maxRecDepth 100000
def RX14 : String := "PailRowModel"
def TX14 : u_T := fun k => match k with
  | 0 => ("PailRowModel", "thrown", "I", false)
  | 1 => ("PailRowModel", "tape", "[I", true)
  | 2 => ("PailRowModel", "taped", "I", false)
  | 3 => ("PailRowModel", "size", "I", false)
  | 4 => ("PailRowModel", "limit", "I", false)
  | 5 => ("PailRowModel", "to", "I", false)
  | 6 => ("PailRowModel", "from", "I", false)
  | 7 => ("PailRowModel", "kind", "I", false)
  | 8 => ("PailRowModel", "number", "I", false)
  | 9 => ("PailRowModel", "sign", "I", false)
  | 10 => ("PailRowModel", "fault", "I", false)
  | 11 => ("PailRowModel", "at", "I", false)
  | 12 => ("PailRowModel", "word", "J", false)
  | 13 => ("PailRowModel", "told", "I", false)
  | 14 => ("PailRowModel", "now", "[I", true)
  | 15 => ("PailRowModel", "read", "[I", true)
  | 16 => ("PailRowModel", "plan", "[I", true)
  | 17 => ("PailRowModel", "kept", "[I", true)
  | 18 => ("PailRowModel", "name", "[J", true)
  | 19 => ("PailRowModel", "readName", "[J", true)
  | 20 => ("PailRowModel", "keptName", "[J", true)
  | 21 => ("PailRowModel", "isKept", "[Z", true)
  | 22 => ("PailRowModel", "isBegun", "Z", false)
  | 23 => ("PailRowModel", "had", "I", false)
  | 24 => ("PailRowModel", "team", "[I", true)
  | 25 => ("PailRowModel", "rest", "[I", true)
  | 26 => ("PailRowModel", "load", "[I", true)
  | 27 => ("PailRowModel", "done", "[I", true)
  | 28 => ("PailRowModel", "queue", "[I", true)
  | 29 => ("PailRowModel", "waits", "[I", true)
  | 30 => ("PailRowModel", "most", "[I", true)
  | 31 => ("PailRowModel", "comes", "[I", true)
  | 32 => ("PailRowModel", "state", "[I", true)
  | 33 => ("PailRowModel", "teamMany", "I", false)
  | 34 => ("PailRowModel", "teamKind", "I", false)
  | 35 => ("PailRowModel", "well", "I", false)
  | 36 => ("PailRowModel", "tick", "I", false)
  | 37 => ("PailRowModel", "empty", "I", false)
  | 38 => ("PailRowModel", "away", "I", false)
  | 39 => ("PailRowModel", "litresThrown", "I", false)
  | 40 => ("PailRowModel", "spilt", "I", false)
  | 41 => ("PailRowModel", "pailsThrown", "I", false)
  | 42 => ("PailRowModel", "drawn", "I", false)
  | 43 => ("PailRowModel", "rowBy", "[I", true)
  | 44 => ("PailRowModel", "rowDone", "[I", true)
  | 45 => ("PailRowModel", "rowMany", "I", false)
  | 46 => ("PailRowModel", "order", "[I", true)
  | 47 => ("PailRowModel", "asked", "[I", true)
  | 48 => ("PailRowModel", "bestRow", "[I", true)
  | 49 => ("PailRowModel", "bestTold", "[I", true)
  | 50 => ("PailRowModel", "bestPeriod", "I", false)
  | 51 => ("PailRowModel", "bestMany", "I", false)
  | 52 => ("PailRowModel", "askedMany", "I", false)
  | 53 => ("PailRowModel", "beside", "[I", true)
  | 54 => ("PailRowModel", "besideTold", "[I", true)
  | 55 => ("PailRowModel", "besideMany", "I", false)
  | 56 => ("PailRowModel", "power", "[I", true)
  | 57 => ("PailRowModel", "house", "[I", true)
  | 58 => ("PailRowModel", "hook", "[I", true)
  | 59 => ("PailRowModel", "hookBest", "[I", true)
  | 60 => ("PailRowModel", "hookTold", "[I", true)
  | 61 => ("PailRowModel", "houses", "I", false)
  | 62 => ("PailRowModel", "hookLeast", "I", false)
  | 63 => ("PailRowModel", "hookMany", "I", false)
  | 64 => ("PailRowModel", "fuel", "[I", true)
  | 65 => ("PailRowModel", "burn", "[I", true)
  | 66 => ("PailRowModel", "wet", "[I", true)
  | 67 => ("PailRowModel", "heat", "[I", true)
  | 68 => ("PailRowModel", "fuelWas", "[I", true)
  | 69 => ("PailRowModel", "burnWas", "[I", true)
  | 70 => ("PailRowModel", "lost", "I", false)
  | 71 => ("PailRowModel", "outAt", "I", false)
  | 72 => ("PailRowModel", "fireCell", "[I", true)
  | 73 => ("PailRowModel", "fireColumns", "I", false)
  | 74 => ("PailRowModel", "fireRows", "I", false)
  | 75 => ("PailRowModel", "fireOut", "I", false)
  | 76 => ("PailRowModel", "wasFire", "Z", false)
  | 77 => ("PailRowModel", "stood", "[I", true)
  | 78 => ("PailRowModel", "aimRow", "[I", true)
  | 79 => ("PailRowModel", "aimBest", "[I", true)
  | 80 => ("PailRowModel", "aimTold", "[I", true)
  | 81 => ("PailRowModel", "aimLeast", "I", false)
  | 82 => ("PailRowModel", "aimMany", "I", false)
  | 83 => ("PailRowModel", "aimToldMany", "I", false)
  | 84 => ("PailRowModel", "planMany", "I", false)
  | 85 => ("PailRowModel", "night", "[I", true)
  | 86 => ("PailRowModel", "node", "[I", true)
  | 87 => ("PailRowModel", "nodes", "I", false)
  | 88 => ("PailRowModel", "ones", "I", false)
  | 89 => ("PailRowModel", "within", "I", false)
  | _ => ("PailRowModel", "top", "I", false)
def tyX14 : Nat → FieldType := fun k => match k with
  | 0 => .int
  | 1 => .array .int
  | 2 => .int
  | 3 => .int
  | 4 => .int
  | 5 => .int
  | 6 => .int
  | 7 => .int
  | 8 => .int
  | 9 => .int
  | 10 => .int
  | 11 => .int
  | 12 => .long
  | 13 => .int
  | 14 => .array .int
  | 15 => .array .int
  | 16 => .array .int
  | 17 => .array .int
  | 18 => .array .long
  | 19 => .array .long
  | 20 => .array .long
  | 21 => .array .boolean
  | 22 => .boolean
  | 23 => .int
  | 24 => .array .int
  | 25 => .array .int
  | 26 => .array .int
  | 27 => .array .int
  | 28 => .array .int
  | 29 => .array .int
  | 30 => .array .int
  | 31 => .array .int
  | 32 => .array .int
  | 33 => .int
  | 34 => .int
  | 35 => .int
  | 36 => .int
  | 37 => .int
  | 38 => .int
  | 39 => .int
  | 40 => .int
  | 41 => .int
  | 42 => .int
  | 43 => .array .int
  | 44 => .array .int
  | 45 => .int
  | 46 => .array .int
  | 47 => .array .int
  | 48 => .array .int
  | 49 => .array .int
  | 50 => .int
  | 51 => .int
  | 52 => .int
  | 53 => .array .int
  | 54 => .array .int
  | 55 => .int
  | 56 => .array .int
  | 57 => .array .int
  | 58 => .array .int
  | 59 => .array .int
  | 60 => .array .int
  | 61 => .int
  | 62 => .int
  | 63 => .int
  | 64 => .array .int
  | 65 => .array .int
  | 66 => .array .int
  | 67 => .array .int
  | 68 => .array .int
  | 69 => .array .int
  | 70 => .int
  | 71 => .int
  | 72 => .array .int
  | 73 => .int
  | 74 => .int
  | 75 => .int
  | 76 => .boolean
  | 77 => .array .int
  | 78 => .array .int
  | 79 => .array .int
  | 80 => .array .int
  | 81 => .int
  | 82 => .int
  | 83 => .int
  | 84 => .int
  | 85 => .array .int
  | 86 => .array .int
  | 87 => .int
  | 88 => .int
  | 89 => .int
  | _ => .int
abbrev wsX140 : List Cond := u_ws RX14 TX14 91
set_option maxRecDepth 100000 in
theorem nmX14 : ∀ a, a < 91 → ∀ b, b < 91 → a ≠ b → (TX14 a).2.1 ≠ (TX14 b).2.1 := by decide +kernel
set_option maxRecDepth 100000 in
theorem tyX14_ok : ∀ k, k < 91 → parseFieldDescriptor (TX14 k).2.2.1 = some (tyX14 k) := by decide +kernel
abbrev cX14_init : ByteArray := prog_23_method_1_code
def yX14_init : MethodName := ⟨RX14, "<init>", "()V"⟩
def dkwX14_init_16 : List UInt8 := [188, 10, 181, 0, 142, 42, 17, 0, 240, 188, 10, 181, 0, 145, 177]
abbrev dktX14_init_16 : List UInt8 := dkwX14_init_16 ++ []
def dkwX14_init_15 : List UInt8 := [188, 10, 181, 0, 133, 42, 6, 188, 10, 181, 0, 136, 42, 6, 188, 10, 181, 0, 139, 42, 17, 0, 240]
abbrev dktX14_init_15 : List UInt8 := dkwX14_init_15 ++ dktX14_init_16
def dkwX14_init_14 : List UInt8 := [17, 0, 192, 188, 10, 181, 0, 123, 42, 2, 181, 0, 126, 42, 17, 2, 64, 188, 10, 181, 0, 130, 42, 6]
abbrev dktX14_init_14 : List UInt8 := dkwX14_init_14 ++ dktX14_init_15
def dkwX14_init_13 : List UInt8 := [188, 10, 181, 0, 114, 42, 17, 15, 64, 188, 10, 181, 0, 117, 42, 17, 15, 64, 188, 10, 181, 0, 120, 42]
abbrev dktX14_init_13 : List UInt8 := dkwX14_init_13 ++ dktX14_init_14
def dkwX14_init_12 : List UInt8 := [188, 10, 181, 0, 105, 42, 16, 64, 188, 10, 181, 0, 108, 42, 16, 64, 188, 10, 181, 0, 111, 42, 16, 64]
abbrev dktX14_init_12 : List UInt8 := dkwX14_init_12 ++ dktX14_init_13
def dkwX14_init_11 : List UInt8 := [188, 10, 181, 0, 96, 42, 16, 6, 188, 10, 181, 0, 99, 42, 16, 6, 188, 10, 181, 0, 102, 42, 16, 64]
abbrev dktX14_init_11 : List UInt8 := dkwX14_init_11 ++ dktX14_init_12
def dkwX14_init_10 : List UInt8 := [188, 10, 181, 0, 87, 42, 16, 12, 188, 10, 181, 0, 90, 42, 16, 12, 188, 10, 181, 0, 93, 42, 16, 6]
abbrev dktX14_init_10 : List UInt8 := dkwX14_init_10 ++ dktX14_init_11
def dkwX14_init_9 : List UInt8 := [188, 10, 181, 0, 78, 42, 16, 7, 188, 10, 181, 0, 81, 42, 16, 12, 188, 10, 181, 0, 84, 42, 16, 12]
abbrev dktX14_init_9 : List UInt8 := dkwX14_init_9 ++ dktX14_init_10
def dkwX14_init_8 : List UInt8 := [188, 10, 181, 0, 69, 42, 16, 7, 188, 10, 181, 0, 72, 42, 16, 7, 188, 10, 181, 0, 75, 42, 16, 7]
abbrev dktX14_init_8 : List UInt8 := dkwX14_init_8 ++ dktX14_init_9
def dkwX14_init_7 : List UInt8 := [2, 79, 89, 5, 2, 79, 89, 6, 2, 79, 89, 7, 2, 79, 89, 8, 2, 79, 181, 0, 66, 42, 16, 12]
abbrev dktX14_init_7 : List UInt8 := dkwX14_init_7 ++ dktX14_init_8
def dkwX14_init_6 : List UInt8 := [188, 10, 181, 0, 60, 42, 16, 12, 188, 10, 181, 0, 63, 42, 16, 6, 188, 10, 89, 3, 2, 79, 89, 4]
abbrev dktX14_init_6 : List UInt8 := dkwX14_init_6 ++ dktX14_init_7
def dkwX14_init_5 : List UInt8 := [188, 10, 181, 0, 51, 42, 16, 12, 188, 10, 181, 0, 54, 42, 16, 12, 188, 10, 181, 0, 57, 42, 16, 30]
abbrev dktX14_init_5 : List UInt8 := dkwX14_init_5 ++ dktX14_init_6
def dkwX14_init_4 : List UInt8 := [181, 0, 42, 42, 16, 12, 188, 10, 181, 0, 45, 42, 16, 12, 188, 10, 181, 0, 48, 42, 17, 1, 104]
abbrev dktX14_init_4 : List UInt8 := dkwX14_init_4 ++ dktX14_init_5
def dkwX14_init_3 : List UInt8 := [181, 0, 32, 42, 5, 188, 4, 181, 0, 35, 42, 16, 12, 188, 10, 181, 0, 39, 42, 16, 12, 188, 10]
abbrev dktX14_init_3 : List UInt8 := dkwX14_init_3 ++ dktX14_init_4
def dkwX14_init_2 : List UInt8 := [181, 0, 22, 42, 16, 12, 188, 11, 181, 0, 25, 42, 16, 12, 188, 11, 181, 0, 29, 42, 16, 24, 188, 11]
abbrev dktX14_init_2 : List UInt8 := dkwX14_init_2 ++ dktX14_init_3
def dkwX14_init_1 : List UInt8 := [17, 0, 200, 188, 10, 181, 0, 16, 42, 17, 1, 64, 188, 10, 181, 0, 19, 42, 17, 6, 64, 188, 10]
abbrev dktX14_init_1 : List UInt8 := dkwX14_init_1 ++ dktX14_init_2
def dkwX14_init_0 : List UInt8 := [42, 183, 0, 1, 42, 17, 2, 228, 188, 10, 181, 0, 7, 42, 17, 3, 32, 188, 10, 181, 0, 13, 42]
abbrev dktX14_init_0 : List UInt8 := dkwX14_init_0 ++ dktX14_init_1
theorem dksX14_init_0 : cX14_init.data.toList.drop 0 = dktX14_init_0 := by decide +kernel
theorem dksX14_init_1 : cX14_init.data.toList.drop 23 = dktX14_init_1 := dk_seg dksX14_init_0 23 rfl rfl
theorem dksX14_init_2 : cX14_init.data.toList.drop 46 = dktX14_init_2 := dk_seg dksX14_init_1 23 rfl rfl
theorem dksX14_init_3 : cX14_init.data.toList.drop 70 = dktX14_init_3 := dk_seg dksX14_init_2 24 rfl rfl
theorem dksX14_init_4 : cX14_init.data.toList.drop 93 = dktX14_init_4 := dk_seg dksX14_init_3 23 rfl rfl
theorem dksX14_init_5 : cX14_init.data.toList.drop 116 = dktX14_init_5 := dk_seg dksX14_init_4 23 rfl rfl
theorem dksX14_init_6 : cX14_init.data.toList.drop 140 = dktX14_init_6 := dk_seg dksX14_init_5 24 rfl rfl
theorem dksX14_init_7 : cX14_init.data.toList.drop 164 = dktX14_init_7 := dk_seg dksX14_init_6 24 rfl rfl
theorem dksX14_init_8 : cX14_init.data.toList.drop 188 = dktX14_init_8 := dk_seg dksX14_init_7 24 rfl rfl
theorem dksX14_init_9 : cX14_init.data.toList.drop 212 = dktX14_init_9 := dk_seg dksX14_init_8 24 rfl rfl
theorem dksX14_init_10 : cX14_init.data.toList.drop 236 = dktX14_init_10 := dk_seg dksX14_init_9 24 rfl rfl
theorem dksX14_init_11 : cX14_init.data.toList.drop 260 = dktX14_init_11 := dk_seg dksX14_init_10 24 rfl rfl
theorem dksX14_init_12 : cX14_init.data.toList.drop 284 = dktX14_init_12 := dk_seg dksX14_init_11 24 rfl rfl
theorem dksX14_init_13 : cX14_init.data.toList.drop 308 = dktX14_init_13 := dk_seg dksX14_init_12 24 rfl rfl
theorem dksX14_init_14 : cX14_init.data.toList.drop 332 = dktX14_init_14 := dk_seg dksX14_init_13 24 rfl rfl
theorem dksX14_init_15 : cX14_init.data.toList.drop 356 = dktX14_init_15 := dk_seg dksX14_init_14 24 rfl rfl
theorem dksX14_init_16 : cX14_init.data.toList.drop 379 = dktX14_init_16 := dk_seg dksX14_init_15 23 rfl rfl
theorem dX14_init_0 : decode cX14_init 0 = .ok (.aload_n 0, 1) := dk_42 (dk_at dksX14_init_0 0 rfl rfl)
theorem dX14_init_1 : decode cX14_init 1 = .ok (.invokespecial 1, 3) := dk_183 0 1 (dk_at dksX14_init_0 1 rfl rfl)
theorem dX14_init_4 : decode cX14_init 4 = .ok (.aload_n 0, 1) := dk_42 (dk_at dksX14_init_0 4 rfl rfl)
theorem dX14_init_5 : decode cX14_init 5 = .ok (.sipush 740, 3) := dk_17 2 228 (dk_at dksX14_init_0 5 rfl rfl)
theorem dX14_init_8 : decode cX14_init 8 = .ok (.newarray .int, 2) := dk_188_10 (dk_at dksX14_init_0 8 rfl rfl)
theorem dX14_init_10 : decode cX14_init 10 = .ok (.putfield 7, 3) := dk_181 0 7 (dk_at dksX14_init_0 10 rfl rfl)
theorem dX14_init_13 : decode cX14_init 13 = .ok (.aload_n 0, 1) := dk_42 (dk_at dksX14_init_0 13 rfl rfl)
theorem dX14_init_14 : decode cX14_init 14 = .ok (.sipush 800, 3) := dk_17 3 32 (dk_at dksX14_init_0 14 rfl rfl)
theorem dX14_init_17 : decode cX14_init 17 = .ok (.newarray .int, 2) := dk_188_10 (dk_at dksX14_init_0 17 rfl rfl)
theorem dX14_init_19 : decode cX14_init 19 = .ok (.putfield 13, 3) := dk_181 0 13 (dk_at dksX14_init_0 19 rfl rfl)
theorem dX14_init_22 : decode cX14_init 22 = .ok (.aload_n 0, 1) := dk_42 (dk_at dksX14_init_0 22 rfl rfl)
theorem dX14_init_23 : decode cX14_init 23 = .ok (.sipush 200, 3) := dk_17 0 200 (dk_at dksX14_init_1 0 rfl rfl)
theorem dX14_init_26 : decode cX14_init 26 = .ok (.newarray .int, 2) := dk_188_10 (dk_at dksX14_init_1 3 rfl rfl)
theorem dX14_init_28 : decode cX14_init 28 = .ok (.putfield 16, 3) := dk_181 0 16 (dk_at dksX14_init_1 5 rfl rfl)
theorem dX14_init_31 : decode cX14_init 31 = .ok (.aload_n 0, 1) := dk_42 (dk_at dksX14_init_1 8 rfl rfl)
theorem dX14_init_32 : decode cX14_init 32 = .ok (.sipush 320, 3) := dk_17 1 64 (dk_at dksX14_init_1 9 rfl rfl)
theorem dX14_init_35 : decode cX14_init 35 = .ok (.newarray .int, 2) := dk_188_10 (dk_at dksX14_init_1 12 rfl rfl)
theorem dX14_init_37 : decode cX14_init 37 = .ok (.putfield 19, 3) := dk_181 0 19 (dk_at dksX14_init_1 14 rfl rfl)
theorem dX14_init_40 : decode cX14_init 40 = .ok (.aload_n 0, 1) := dk_42 (dk_at dksX14_init_1 17 rfl rfl)
theorem dX14_init_41 : decode cX14_init 41 = .ok (.sipush 1600, 3) := dk_17 6 64 (dk_at dksX14_init_1 18 rfl rfl)
theorem dX14_init_44 : decode cX14_init 44 = .ok (.newarray .int, 2) := dk_188_10 (dk_at dksX14_init_1 21 rfl rfl)
theorem dX14_init_46 : decode cX14_init 46 = .ok (.putfield 22, 3) := dk_181 0 22 (dk_at dksX14_init_2 0 rfl rfl)
theorem dX14_init_49 : decode cX14_init 49 = .ok (.aload_n 0, 1) := dk_42 (dk_at dksX14_init_2 3 rfl rfl)
theorem dX14_init_50 : decode cX14_init 50 = .ok (.bipush 12, 2) := dk_16 12 (dk_at dksX14_init_2 4 rfl rfl)
theorem dX14_init_52 : decode cX14_init 52 = .ok (.newarray .long, 2) := dk_188_11 (dk_at dksX14_init_2 6 rfl rfl)
theorem dX14_init_54 : decode cX14_init 54 = .ok (.putfield 25, 3) := dk_181 0 25 (dk_at dksX14_init_2 8 rfl rfl)
theorem dX14_init_57 : decode cX14_init 57 = .ok (.aload_n 0, 1) := dk_42 (dk_at dksX14_init_2 11 rfl rfl)
theorem dX14_init_58 : decode cX14_init 58 = .ok (.bipush 12, 2) := dk_16 12 (dk_at dksX14_init_2 12 rfl rfl)
theorem dX14_init_60 : decode cX14_init 60 = .ok (.newarray .long, 2) := dk_188_11 (dk_at dksX14_init_2 14 rfl rfl)
theorem dX14_init_62 : decode cX14_init 62 = .ok (.putfield 29, 3) := dk_181 0 29 (dk_at dksX14_init_2 16 rfl rfl)
theorem dX14_init_65 : decode cX14_init 65 = .ok (.aload_n 0, 1) := dk_42 (dk_at dksX14_init_2 19 rfl rfl)
theorem dX14_init_66 : decode cX14_init 66 = .ok (.bipush 24, 2) := dk_16 24 (dk_at dksX14_init_2 20 rfl rfl)
theorem dX14_init_68 : decode cX14_init 68 = .ok (.newarray .long, 2) := dk_188_11 (dk_at dksX14_init_2 22 rfl rfl)
theorem dX14_init_70 : decode cX14_init 70 = .ok (.putfield 32, 3) := dk_181 0 32 (dk_at dksX14_init_3 0 rfl rfl)
theorem dX14_init_73 : decode cX14_init 73 = .ok (.aload_n 0, 1) := dk_42 (dk_at dksX14_init_3 3 rfl rfl)
theorem dX14_init_74 : decode cX14_init 74 = .ok (.iconst 2, 1) := dk_5 (dk_at dksX14_init_3 4 rfl rfl)
theorem dX14_init_75 : decode cX14_init 75 = .ok (.newarray .boolean, 2) := dk_188_4 (dk_at dksX14_init_3 5 rfl rfl)
theorem dX14_init_77 : decode cX14_init 77 = .ok (.putfield 35, 3) := dk_181 0 35 (dk_at dksX14_init_3 7 rfl rfl)
theorem dX14_init_80 : decode cX14_init 80 = .ok (.aload_n 0, 1) := dk_42 (dk_at dksX14_init_3 10 rfl rfl)
theorem dX14_init_81 : decode cX14_init 81 = .ok (.bipush 12, 2) := dk_16 12 (dk_at dksX14_init_3 11 rfl rfl)
theorem dX14_init_83 : decode cX14_init 83 = .ok (.newarray .int, 2) := dk_188_10 (dk_at dksX14_init_3 13 rfl rfl)
theorem dX14_init_85 : decode cX14_init 85 = .ok (.putfield 39, 3) := dk_181 0 39 (dk_at dksX14_init_3 15 rfl rfl)
theorem dX14_init_88 : decode cX14_init 88 = .ok (.aload_n 0, 1) := dk_42 (dk_at dksX14_init_3 18 rfl rfl)
theorem dX14_init_89 : decode cX14_init 89 = .ok (.bipush 12, 2) := dk_16 12 (dk_at dksX14_init_3 19 rfl rfl)
theorem dX14_init_91 : decode cX14_init 91 = .ok (.newarray .int, 2) := dk_188_10 (dk_at dksX14_init_3 21 rfl rfl)
theorem dX14_init_93 : decode cX14_init 93 = .ok (.putfield 42, 3) := dk_181 0 42 (dk_at dksX14_init_4 0 rfl rfl)
theorem dX14_init_96 : decode cX14_init 96 = .ok (.aload_n 0, 1) := dk_42 (dk_at dksX14_init_4 3 rfl rfl)
theorem dX14_init_97 : decode cX14_init 97 = .ok (.bipush 12, 2) := dk_16 12 (dk_at dksX14_init_4 4 rfl rfl)
theorem dX14_init_99 : decode cX14_init 99 = .ok (.newarray .int, 2) := dk_188_10 (dk_at dksX14_init_4 6 rfl rfl)
theorem dX14_init_101 : decode cX14_init 101 = .ok (.putfield 45, 3) := dk_181 0 45 (dk_at dksX14_init_4 8 rfl rfl)
theorem dX14_init_104 : decode cX14_init 104 = .ok (.aload_n 0, 1) := dk_42 (dk_at dksX14_init_4 11 rfl rfl)
theorem dX14_init_105 : decode cX14_init 105 = .ok (.bipush 12, 2) := dk_16 12 (dk_at dksX14_init_4 12 rfl rfl)
theorem dX14_init_107 : decode cX14_init 107 = .ok (.newarray .int, 2) := dk_188_10 (dk_at dksX14_init_4 14 rfl rfl)
theorem dX14_init_109 : decode cX14_init 109 = .ok (.putfield 48, 3) := dk_181 0 48 (dk_at dksX14_init_4 16 rfl rfl)
theorem dX14_init_112 : decode cX14_init 112 = .ok (.aload_n 0, 1) := dk_42 (dk_at dksX14_init_4 19 rfl rfl)
theorem dX14_init_113 : decode cX14_init 113 = .ok (.sipush 360, 3) := dk_17 1 104 (dk_at dksX14_init_4 20 rfl rfl)
theorem dX14_init_116 : decode cX14_init 116 = .ok (.newarray .int, 2) := dk_188_10 (dk_at dksX14_init_5 0 rfl rfl)
theorem dX14_init_118 : decode cX14_init 118 = .ok (.putfield 51, 3) := dk_181 0 51 (dk_at dksX14_init_5 2 rfl rfl)
theorem dX14_init_121 : decode cX14_init 121 = .ok (.aload_n 0, 1) := dk_42 (dk_at dksX14_init_5 5 rfl rfl)
theorem dX14_init_122 : decode cX14_init 122 = .ok (.bipush 12, 2) := dk_16 12 (dk_at dksX14_init_5 6 rfl rfl)
theorem dX14_init_124 : decode cX14_init 124 = .ok (.newarray .int, 2) := dk_188_10 (dk_at dksX14_init_5 8 rfl rfl)
theorem dX14_init_126 : decode cX14_init 126 = .ok (.putfield 54, 3) := dk_181 0 54 (dk_at dksX14_init_5 10 rfl rfl)
theorem dX14_init_129 : decode cX14_init 129 = .ok (.aload_n 0, 1) := dk_42 (dk_at dksX14_init_5 13 rfl rfl)
theorem dX14_init_130 : decode cX14_init 130 = .ok (.bipush 12, 2) := dk_16 12 (dk_at dksX14_init_5 14 rfl rfl)
theorem dX14_init_132 : decode cX14_init 132 = .ok (.newarray .int, 2) := dk_188_10 (dk_at dksX14_init_5 16 rfl rfl)
theorem dX14_init_134 : decode cX14_init 134 = .ok (.putfield 57, 3) := dk_181 0 57 (dk_at dksX14_init_5 18 rfl rfl)
theorem dX14_init_137 : decode cX14_init 137 = .ok (.aload_n 0, 1) := dk_42 (dk_at dksX14_init_5 21 rfl rfl)
theorem dX14_init_138 : decode cX14_init 138 = .ok (.bipush 30, 2) := dk_16 30 (dk_at dksX14_init_5 22 rfl rfl)
theorem dX14_init_140 : decode cX14_init 140 = .ok (.newarray .int, 2) := dk_188_10 (dk_at dksX14_init_6 0 rfl rfl)
theorem dX14_init_142 : decode cX14_init 142 = .ok (.putfield 60, 3) := dk_181 0 60 (dk_at dksX14_init_6 2 rfl rfl)
theorem dX14_init_145 : decode cX14_init 145 = .ok (.aload_n 0, 1) := dk_42 (dk_at dksX14_init_6 5 rfl rfl)
theorem dX14_init_146 : decode cX14_init 146 = .ok (.bipush 12, 2) := dk_16 12 (dk_at dksX14_init_6 6 rfl rfl)
theorem dX14_init_148 : decode cX14_init 148 = .ok (.newarray .int, 2) := dk_188_10 (dk_at dksX14_init_6 8 rfl rfl)
theorem dX14_init_150 : decode cX14_init 150 = .ok (.putfield 63, 3) := dk_181 0 63 (dk_at dksX14_init_6 10 rfl rfl)
theorem dX14_init_153 : decode cX14_init 153 = .ok (.aload_n 0, 1) := dk_42 (dk_at dksX14_init_6 13 rfl rfl)
theorem dX14_init_154 : decode cX14_init 154 = .ok (.bipush 6, 2) := dk_16 6 (dk_at dksX14_init_6 14 rfl rfl)
theorem dX14_init_156 : decode cX14_init 156 = .ok (.newarray .int, 2) := dk_188_10 (dk_at dksX14_init_6 16 rfl rfl)
theorem dX14_init_158 : decode cX14_init 158 = .ok (.dup, 1) := dk_89 (dk_at dksX14_init_6 18 rfl rfl)
theorem dX14_init_159 : decode cX14_init 159 = .ok (.iconst 0, 1) := dk_3 (dk_at dksX14_init_6 19 rfl rfl)
theorem dX14_init_160 : decode cX14_init 160 = .ok (.iconst (-1), 1) := dk_2 (dk_at dksX14_init_6 20 rfl rfl)
theorem dX14_init_161 : decode cX14_init 161 = .ok (.iastore, 1) := dk_79 (dk_at dksX14_init_6 21 rfl rfl)
theorem dX14_init_162 : decode cX14_init 162 = .ok (.dup, 1) := dk_89 (dk_at dksX14_init_6 22 rfl rfl)
theorem dX14_init_163 : decode cX14_init 163 = .ok (.iconst 1, 1) := dk_4 (dk_at dksX14_init_6 23 rfl rfl)
theorem dX14_init_164 : decode cX14_init 164 = .ok (.iconst (-1), 1) := dk_2 (dk_at dksX14_init_7 0 rfl rfl)
theorem dX14_init_165 : decode cX14_init 165 = .ok (.iastore, 1) := dk_79 (dk_at dksX14_init_7 1 rfl rfl)
theorem dX14_init_166 : decode cX14_init 166 = .ok (.dup, 1) := dk_89 (dk_at dksX14_init_7 2 rfl rfl)
theorem dX14_init_167 : decode cX14_init 167 = .ok (.iconst 2, 1) := dk_5 (dk_at dksX14_init_7 3 rfl rfl)
theorem dX14_init_168 : decode cX14_init 168 = .ok (.iconst (-1), 1) := dk_2 (dk_at dksX14_init_7 4 rfl rfl)
theorem dX14_init_169 : decode cX14_init 169 = .ok (.iastore, 1) := dk_79 (dk_at dksX14_init_7 5 rfl rfl)
theorem dX14_init_170 : decode cX14_init 170 = .ok (.dup, 1) := dk_89 (dk_at dksX14_init_7 6 rfl rfl)
theorem dX14_init_171 : decode cX14_init 171 = .ok (.iconst 3, 1) := dk_6 (dk_at dksX14_init_7 7 rfl rfl)
theorem dX14_init_172 : decode cX14_init 172 = .ok (.iconst (-1), 1) := dk_2 (dk_at dksX14_init_7 8 rfl rfl)
theorem dX14_init_173 : decode cX14_init 173 = .ok (.iastore, 1) := dk_79 (dk_at dksX14_init_7 9 rfl rfl)
theorem dX14_init_174 : decode cX14_init 174 = .ok (.dup, 1) := dk_89 (dk_at dksX14_init_7 10 rfl rfl)
theorem dX14_init_175 : decode cX14_init 175 = .ok (.iconst 4, 1) := dk_7 (dk_at dksX14_init_7 11 rfl rfl)
theorem dX14_init_176 : decode cX14_init 176 = .ok (.iconst (-1), 1) := dk_2 (dk_at dksX14_init_7 12 rfl rfl)
theorem dX14_init_177 : decode cX14_init 177 = .ok (.iastore, 1) := dk_79 (dk_at dksX14_init_7 13 rfl rfl)
theorem dX14_init_178 : decode cX14_init 178 = .ok (.dup, 1) := dk_89 (dk_at dksX14_init_7 14 rfl rfl)
theorem dX14_init_179 : decode cX14_init 179 = .ok (.iconst 5, 1) := dk_8 (dk_at dksX14_init_7 15 rfl rfl)
theorem dX14_init_180 : decode cX14_init 180 = .ok (.iconst (-1), 1) := dk_2 (dk_at dksX14_init_7 16 rfl rfl)
theorem dX14_init_181 : decode cX14_init 181 = .ok (.iastore, 1) := dk_79 (dk_at dksX14_init_7 17 rfl rfl)
theorem dX14_init_182 : decode cX14_init 182 = .ok (.putfield 66, 3) := dk_181 0 66 (dk_at dksX14_init_7 18 rfl rfl)
theorem dX14_init_185 : decode cX14_init 185 = .ok (.aload_n 0, 1) := dk_42 (dk_at dksX14_init_7 21 rfl rfl)
theorem dX14_init_186 : decode cX14_init 186 = .ok (.bipush 12, 2) := dk_16 12 (dk_at dksX14_init_7 22 rfl rfl)
theorem dX14_init_188 : decode cX14_init 188 = .ok (.newarray .int, 2) := dk_188_10 (dk_at dksX14_init_8 0 rfl rfl)
theorem dX14_init_190 : decode cX14_init 190 = .ok (.putfield 69, 3) := dk_181 0 69 (dk_at dksX14_init_8 2 rfl rfl)
theorem dX14_init_193 : decode cX14_init 193 = .ok (.aload_n 0, 1) := dk_42 (dk_at dksX14_init_8 5 rfl rfl)
theorem dX14_init_194 : decode cX14_init 194 = .ok (.bipush 7, 2) := dk_16 7 (dk_at dksX14_init_8 6 rfl rfl)
theorem dX14_init_196 : decode cX14_init 196 = .ok (.newarray .int, 2) := dk_188_10 (dk_at dksX14_init_8 8 rfl rfl)
theorem dX14_init_198 : decode cX14_init 198 = .ok (.putfield 72, 3) := dk_181 0 72 (dk_at dksX14_init_8 10 rfl rfl)
theorem dX14_init_201 : decode cX14_init 201 = .ok (.aload_n 0, 1) := dk_42 (dk_at dksX14_init_8 13 rfl rfl)
theorem dX14_init_202 : decode cX14_init 202 = .ok (.bipush 7, 2) := dk_16 7 (dk_at dksX14_init_8 14 rfl rfl)
theorem dX14_init_204 : decode cX14_init 204 = .ok (.newarray .int, 2) := dk_188_10 (dk_at dksX14_init_8 16 rfl rfl)
theorem dX14_init_206 : decode cX14_init 206 = .ok (.putfield 75, 3) := dk_181 0 75 (dk_at dksX14_init_8 18 rfl rfl)
theorem dX14_init_209 : decode cX14_init 209 = .ok (.aload_n 0, 1) := dk_42 (dk_at dksX14_init_8 21 rfl rfl)
theorem dX14_init_210 : decode cX14_init 210 = .ok (.bipush 7, 2) := dk_16 7 (dk_at dksX14_init_8 22 rfl rfl)
theorem dX14_init_212 : decode cX14_init 212 = .ok (.newarray .int, 2) := dk_188_10 (dk_at dksX14_init_9 0 rfl rfl)
theorem dX14_init_214 : decode cX14_init 214 = .ok (.putfield 78, 3) := dk_181 0 78 (dk_at dksX14_init_9 2 rfl rfl)
theorem dX14_init_217 : decode cX14_init 217 = .ok (.aload_n 0, 1) := dk_42 (dk_at dksX14_init_9 5 rfl rfl)
theorem dX14_init_218 : decode cX14_init 218 = .ok (.bipush 7, 2) := dk_16 7 (dk_at dksX14_init_9 6 rfl rfl)
theorem dX14_init_220 : decode cX14_init 220 = .ok (.newarray .int, 2) := dk_188_10 (dk_at dksX14_init_9 8 rfl rfl)
theorem dX14_init_222 : decode cX14_init 222 = .ok (.putfield 81, 3) := dk_181 0 81 (dk_at dksX14_init_9 10 rfl rfl)
theorem dX14_init_225 : decode cX14_init 225 = .ok (.aload_n 0, 1) := dk_42 (dk_at dksX14_init_9 13 rfl rfl)
theorem dX14_init_226 : decode cX14_init 226 = .ok (.bipush 12, 2) := dk_16 12 (dk_at dksX14_init_9 14 rfl rfl)
theorem dX14_init_228 : decode cX14_init 228 = .ok (.newarray .int, 2) := dk_188_10 (dk_at dksX14_init_9 16 rfl rfl)
theorem dX14_init_230 : decode cX14_init 230 = .ok (.putfield 84, 3) := dk_181 0 84 (dk_at dksX14_init_9 18 rfl rfl)
theorem dX14_init_233 : decode cX14_init 233 = .ok (.aload_n 0, 1) := dk_42 (dk_at dksX14_init_9 21 rfl rfl)
theorem dX14_init_234 : decode cX14_init 234 = .ok (.bipush 12, 2) := dk_16 12 (dk_at dksX14_init_9 22 rfl rfl)
theorem dX14_init_236 : decode cX14_init 236 = .ok (.newarray .int, 2) := dk_188_10 (dk_at dksX14_init_10 0 rfl rfl)
theorem dX14_init_238 : decode cX14_init 238 = .ok (.putfield 87, 3) := dk_181 0 87 (dk_at dksX14_init_10 2 rfl rfl)
theorem dX14_init_241 : decode cX14_init 241 = .ok (.aload_n 0, 1) := dk_42 (dk_at dksX14_init_10 5 rfl rfl)
theorem dX14_init_242 : decode cX14_init 242 = .ok (.bipush 12, 2) := dk_16 12 (dk_at dksX14_init_10 6 rfl rfl)
theorem dX14_init_244 : decode cX14_init 244 = .ok (.newarray .int, 2) := dk_188_10 (dk_at dksX14_init_10 8 rfl rfl)
theorem dX14_init_246 : decode cX14_init 246 = .ok (.putfield 90, 3) := dk_181 0 90 (dk_at dksX14_init_10 10 rfl rfl)
theorem dX14_init_249 : decode cX14_init 249 = .ok (.aload_n 0, 1) := dk_42 (dk_at dksX14_init_10 13 rfl rfl)
theorem dX14_init_250 : decode cX14_init 250 = .ok (.bipush 12, 2) := dk_16 12 (dk_at dksX14_init_10 14 rfl rfl)
theorem dX14_init_252 : decode cX14_init 252 = .ok (.newarray .int, 2) := dk_188_10 (dk_at dksX14_init_10 16 rfl rfl)
theorem dX14_init_254 : decode cX14_init 254 = .ok (.putfield 93, 3) := dk_181 0 93 (dk_at dksX14_init_10 18 rfl rfl)
theorem dX14_init_257 : decode cX14_init 257 = .ok (.aload_n 0, 1) := dk_42 (dk_at dksX14_init_10 21 rfl rfl)
theorem dX14_init_258 : decode cX14_init 258 = .ok (.bipush 6, 2) := dk_16 6 (dk_at dksX14_init_10 22 rfl rfl)
theorem dX14_init_260 : decode cX14_init 260 = .ok (.newarray .int, 2) := dk_188_10 (dk_at dksX14_init_11 0 rfl rfl)
theorem dX14_init_262 : decode cX14_init 262 = .ok (.putfield 96, 3) := dk_181 0 96 (dk_at dksX14_init_11 2 rfl rfl)
theorem dX14_init_265 : decode cX14_init 265 = .ok (.aload_n 0, 1) := dk_42 (dk_at dksX14_init_11 5 rfl rfl)
theorem dX14_init_266 : decode cX14_init 266 = .ok (.bipush 6, 2) := dk_16 6 (dk_at dksX14_init_11 6 rfl rfl)
theorem dX14_init_268 : decode cX14_init 268 = .ok (.newarray .int, 2) := dk_188_10 (dk_at dksX14_init_11 8 rfl rfl)
theorem dX14_init_270 : decode cX14_init 270 = .ok (.putfield 99, 3) := dk_181 0 99 (dk_at dksX14_init_11 10 rfl rfl)
theorem dX14_init_273 : decode cX14_init 273 = .ok (.aload_n 0, 1) := dk_42 (dk_at dksX14_init_11 13 rfl rfl)
theorem dX14_init_274 : decode cX14_init 274 = .ok (.bipush 6, 2) := dk_16 6 (dk_at dksX14_init_11 14 rfl rfl)
theorem dX14_init_276 : decode cX14_init 276 = .ok (.newarray .int, 2) := dk_188_10 (dk_at dksX14_init_11 16 rfl rfl)
theorem dX14_init_278 : decode cX14_init 278 = .ok (.putfield 102, 3) := dk_181 0 102 (dk_at dksX14_init_11 18 rfl rfl)
theorem dX14_init_281 : decode cX14_init 281 = .ok (.aload_n 0, 1) := dk_42 (dk_at dksX14_init_11 21 rfl rfl)
theorem dX14_init_282 : decode cX14_init 282 = .ok (.bipush 64, 2) := dk_16 64 (dk_at dksX14_init_11 22 rfl rfl)
theorem dX14_init_284 : decode cX14_init 284 = .ok (.newarray .int, 2) := dk_188_10 (dk_at dksX14_init_12 0 rfl rfl)
theorem dX14_init_286 : decode cX14_init 286 = .ok (.putfield 105, 3) := dk_181 0 105 (dk_at dksX14_init_12 2 rfl rfl)
theorem dX14_init_289 : decode cX14_init 289 = .ok (.aload_n 0, 1) := dk_42 (dk_at dksX14_init_12 5 rfl rfl)
theorem dX14_init_290 : decode cX14_init 290 = .ok (.bipush 64, 2) := dk_16 64 (dk_at dksX14_init_12 6 rfl rfl)
theorem dX14_init_292 : decode cX14_init 292 = .ok (.newarray .int, 2) := dk_188_10 (dk_at dksX14_init_12 8 rfl rfl)
theorem dX14_init_294 : decode cX14_init 294 = .ok (.putfield 108, 3) := dk_181 0 108 (dk_at dksX14_init_12 10 rfl rfl)
theorem dX14_init_297 : decode cX14_init 297 = .ok (.aload_n 0, 1) := dk_42 (dk_at dksX14_init_12 13 rfl rfl)
theorem dX14_init_298 : decode cX14_init 298 = .ok (.bipush 64, 2) := dk_16 64 (dk_at dksX14_init_12 14 rfl rfl)
theorem dX14_init_300 : decode cX14_init 300 = .ok (.newarray .int, 2) := dk_188_10 (dk_at dksX14_init_12 16 rfl rfl)
theorem dX14_init_302 : decode cX14_init 302 = .ok (.putfield 111, 3) := dk_181 0 111 (dk_at dksX14_init_12 18 rfl rfl)
theorem dX14_init_305 : decode cX14_init 305 = .ok (.aload_n 0, 1) := dk_42 (dk_at dksX14_init_12 21 rfl rfl)
theorem dX14_init_306 : decode cX14_init 306 = .ok (.bipush 64, 2) := dk_16 64 (dk_at dksX14_init_12 22 rfl rfl)
theorem dX14_init_308 : decode cX14_init 308 = .ok (.newarray .int, 2) := dk_188_10 (dk_at dksX14_init_13 0 rfl rfl)
theorem dX14_init_310 : decode cX14_init 310 = .ok (.putfield 114, 3) := dk_181 0 114 (dk_at dksX14_init_13 2 rfl rfl)
theorem dX14_init_313 : decode cX14_init 313 = .ok (.aload_n 0, 1) := dk_42 (dk_at dksX14_init_13 5 rfl rfl)
theorem dX14_init_314 : decode cX14_init 314 = .ok (.sipush 3904, 3) := dk_17 15 64 (dk_at dksX14_init_13 6 rfl rfl)
theorem dX14_init_317 : decode cX14_init 317 = .ok (.newarray .int, 2) := dk_188_10 (dk_at dksX14_init_13 9 rfl rfl)
theorem dX14_init_319 : decode cX14_init 319 = .ok (.putfield 117, 3) := dk_181 0 117 (dk_at dksX14_init_13 11 rfl rfl)
theorem dX14_init_322 : decode cX14_init 322 = .ok (.aload_n 0, 1) := dk_42 (dk_at dksX14_init_13 14 rfl rfl)
theorem dX14_init_323 : decode cX14_init 323 = .ok (.sipush 3904, 3) := dk_17 15 64 (dk_at dksX14_init_13 15 rfl rfl)
theorem dX14_init_326 : decode cX14_init 326 = .ok (.newarray .int, 2) := dk_188_10 (dk_at dksX14_init_13 18 rfl rfl)
theorem dX14_init_328 : decode cX14_init 328 = .ok (.putfield 120, 3) := dk_181 0 120 (dk_at dksX14_init_13 20 rfl rfl)
theorem dX14_init_331 : decode cX14_init 331 = .ok (.aload_n 0, 1) := dk_42 (dk_at dksX14_init_13 23 rfl rfl)
theorem dX14_init_332 : decode cX14_init 332 = .ok (.sipush 192, 3) := dk_17 0 192 (dk_at dksX14_init_14 0 rfl rfl)
theorem dX14_init_335 : decode cX14_init 335 = .ok (.newarray .int, 2) := dk_188_10 (dk_at dksX14_init_14 3 rfl rfl)
theorem dX14_init_337 : decode cX14_init 337 = .ok (.putfield 123, 3) := dk_181 0 123 (dk_at dksX14_init_14 5 rfl rfl)
theorem dX14_init_340 : decode cX14_init 340 = .ok (.aload_n 0, 1) := dk_42 (dk_at dksX14_init_14 8 rfl rfl)
theorem dX14_init_341 : decode cX14_init 341 = .ok (.iconst (-1), 1) := dk_2 (dk_at dksX14_init_14 9 rfl rfl)
theorem dX14_init_342 : decode cX14_init 342 = .ok (.putfield 126, 3) := dk_181 0 126 (dk_at dksX14_init_14 10 rfl rfl)
theorem dX14_init_345 : decode cX14_init 345 = .ok (.aload_n 0, 1) := dk_42 (dk_at dksX14_init_14 13 rfl rfl)
theorem dX14_init_346 : decode cX14_init 346 = .ok (.sipush 576, 3) := dk_17 2 64 (dk_at dksX14_init_14 14 rfl rfl)
theorem dX14_init_349 : decode cX14_init 349 = .ok (.newarray .int, 2) := dk_188_10 (dk_at dksX14_init_14 17 rfl rfl)
theorem dX14_init_351 : decode cX14_init 351 = .ok (.putfield 130, 3) := dk_181 0 130 (dk_at dksX14_init_14 19 rfl rfl)
theorem dX14_init_354 : decode cX14_init 354 = .ok (.aload_n 0, 1) := dk_42 (dk_at dksX14_init_14 22 rfl rfl)
theorem dX14_init_355 : decode cX14_init 355 = .ok (.iconst 3, 1) := dk_6 (dk_at dksX14_init_14 23 rfl rfl)
theorem dX14_init_356 : decode cX14_init 356 = .ok (.newarray .int, 2) := dk_188_10 (dk_at dksX14_init_15 0 rfl rfl)
theorem dX14_init_358 : decode cX14_init 358 = .ok (.putfield 133, 3) := dk_181 0 133 (dk_at dksX14_init_15 2 rfl rfl)
theorem dX14_init_361 : decode cX14_init 361 = .ok (.aload_n 0, 1) := dk_42 (dk_at dksX14_init_15 5 rfl rfl)
theorem dX14_init_362 : decode cX14_init 362 = .ok (.iconst 3, 1) := dk_6 (dk_at dksX14_init_15 6 rfl rfl)
theorem dX14_init_363 : decode cX14_init 363 = .ok (.newarray .int, 2) := dk_188_10 (dk_at dksX14_init_15 7 rfl rfl)
theorem dX14_init_365 : decode cX14_init 365 = .ok (.putfield 136, 3) := dk_181 0 136 (dk_at dksX14_init_15 9 rfl rfl)
theorem dX14_init_368 : decode cX14_init 368 = .ok (.aload_n 0, 1) := dk_42 (dk_at dksX14_init_15 12 rfl rfl)
theorem dX14_init_369 : decode cX14_init 369 = .ok (.iconst 3, 1) := dk_6 (dk_at dksX14_init_15 13 rfl rfl)
theorem dX14_init_370 : decode cX14_init 370 = .ok (.newarray .int, 2) := dk_188_10 (dk_at dksX14_init_15 14 rfl rfl)
theorem dX14_init_372 : decode cX14_init 372 = .ok (.putfield 139, 3) := dk_181 0 139 (dk_at dksX14_init_15 16 rfl rfl)
theorem dX14_init_375 : decode cX14_init 375 = .ok (.aload_n 0, 1) := dk_42 (dk_at dksX14_init_15 19 rfl rfl)
theorem dX14_init_376 : decode cX14_init 376 = .ok (.sipush 240, 3) := dk_17 0 240 (dk_at dksX14_init_15 20 rfl rfl)
theorem dX14_init_379 : decode cX14_init 379 = .ok (.newarray .int, 2) := dk_188_10 (dk_at dksX14_init_16 0 rfl rfl)
theorem dX14_init_381 : decode cX14_init 381 = .ok (.putfield 142, 3) := dk_181 0 142 (dk_at dksX14_init_16 2 rfl rfl)
theorem dX14_init_384 : decode cX14_init 384 = .ok (.aload_n 0, 1) := dk_42 (dk_at dksX14_init_16 5 rfl rfl)
theorem dX14_init_385 : decode cX14_init 385 = .ok (.sipush 240, 3) := dk_17 0 240 (dk_at dksX14_init_16 6 rfl rfl)
theorem dX14_init_388 : decode cX14_init 388 = .ok (.newarray .int, 2) := dk_188_10 (dk_at dksX14_init_16 9 rfl rfl)
theorem dX14_init_390 : decode cX14_init 390 = .ok (.putfield 145, 3) := dk_181 0 145 (dk_at dksX14_init_16 11 rfl rfl)
theorem dX14_init_393 : decode cX14_init 393 = .ok (.return_, 1) := dk_177 (dk_at dksX14_init_16 14 rfl rfl)
abbrev cX14_thrown : ByteArray := prog_23_method_2_code
def yX14_thrown : MethodName := ⟨RX14, "thrown", "()I"⟩
theorem dX14_thrown_0 : decode cX14_thrown 0 = .ok (.aload_n 0, 1) := by decide +kernel
theorem dX14_thrown_1 : decode cX14_thrown 1 = .ok (.getfield 148, 3) := by decide +kernel
theorem dX14_thrown_4 : decode cX14_thrown 4 = .ok (.ireturn, 1) := by decide +kernel
abbrev cX14_feed : ByteArray := prog_23_method_5_code
def yX14_feed : MethodName := ⟨RX14, "feed", "(IIIII)I"⟩
def dkwX14_feed_2 : List UInt8 := [182, 0, 154, 42, 180, 0, 151, 172]
abbrev dktX14_feed_2 : List UInt8 := dkwX14_feed_2 ++ []
def dkwX14_feed_1 : List UInt8 := [182, 0, 154, 42, 28, 182, 0, 154, 42, 29, 182, 0, 154, 42, 21, 4, 182, 0, 154, 42, 21, 5]
abbrev dktX14_feed_1 : List UInt8 := dkwX14_feed_1 ++ dktX14_feed_2
def dkwX14_feed_0 : List UInt8 := [42, 3, 181, 0, 148, 42, 180, 0, 151, 16, 20, 96, 17, 2, 228, 164, 0, 5, 2, 172, 42, 27]
abbrev dktX14_feed_0 : List UInt8 := dkwX14_feed_0 ++ dktX14_feed_1
theorem dksX14_feed_0 : cX14_feed.data.toList.drop 0 = dktX14_feed_0 := by decide +kernel
theorem dksX14_feed_1 : cX14_feed.data.toList.drop 22 = dktX14_feed_1 := dk_seg dksX14_feed_0 22 rfl rfl
theorem dksX14_feed_2 : cX14_feed.data.toList.drop 44 = dktX14_feed_2 := dk_seg dksX14_feed_1 22 rfl rfl
theorem dX14_feed_0 : decode cX14_feed 0 = .ok (.aload_n 0, 1) := dk_42 (dk_at dksX14_feed_0 0 rfl rfl)
theorem dX14_feed_1 : decode cX14_feed 1 = .ok (.iconst 0, 1) := dk_3 (dk_at dksX14_feed_0 1 rfl rfl)
theorem dX14_feed_2 : decode cX14_feed 2 = .ok (.putfield 148, 3) := dk_181 0 148 (dk_at dksX14_feed_0 2 rfl rfl)
theorem dX14_feed_5 : decode cX14_feed 5 = .ok (.aload_n 0, 1) := dk_42 (dk_at dksX14_feed_0 5 rfl rfl)
theorem dX14_feed_6 : decode cX14_feed 6 = .ok (.getfield 151, 3) := dk_180 0 151 (dk_at dksX14_feed_0 6 rfl rfl)
theorem dX14_feed_9 : decode cX14_feed 9 = .ok (.bipush 20, 2) := dk_16 20 (dk_at dksX14_feed_0 9 rfl rfl)
theorem dX14_feed_11 : decode cX14_feed 11 = .ok (.iadd, 1) := dk_96 (dk_at dksX14_feed_0 11 rfl rfl)
theorem dX14_feed_12 : decode cX14_feed 12 = .ok (.sipush 740, 3) := dk_17 2 228 (dk_at dksX14_feed_0 12 rfl rfl)
theorem dX14_feed_15 : decode cX14_feed 15 = .ok (.if_icmp .le 5, 3) := dk_164 0 5 (dk_at dksX14_feed_0 15 rfl rfl)
theorem dX14_feed_18 : decode cX14_feed 18 = .ok (.iconst (-1), 1) := dk_2 (dk_at dksX14_feed_0 18 rfl rfl)
theorem dX14_feed_19 : decode cX14_feed 19 = .ok (.ireturn, 1) := dk_172 (dk_at dksX14_feed_0 19 rfl rfl)
theorem dX14_feed_20 : decode cX14_feed 20 = .ok (.aload_n 0, 1) := dk_42 (dk_at dksX14_feed_0 20 rfl rfl)
theorem dX14_feed_21 : decode cX14_feed 21 = .ok (.iload_n 1, 1) := dk_27 (dk_at dksX14_feed_0 21 rfl rfl)
theorem dX14_feed_22 : decode cX14_feed 22 = .ok (.invokevirtual 154, 3) := dk_182 0 154 (dk_at dksX14_feed_1 0 rfl rfl)
theorem dX14_feed_25 : decode cX14_feed 25 = .ok (.aload_n 0, 1) := dk_42 (dk_at dksX14_feed_1 3 rfl rfl)
theorem dX14_feed_26 : decode cX14_feed 26 = .ok (.iload_n 2, 1) := dk_28 (dk_at dksX14_feed_1 4 rfl rfl)
theorem dX14_feed_27 : decode cX14_feed 27 = .ok (.invokevirtual 154, 3) := dk_182 0 154 (dk_at dksX14_feed_1 5 rfl rfl)
theorem dX14_feed_30 : decode cX14_feed 30 = .ok (.aload_n 0, 1) := dk_42 (dk_at dksX14_feed_1 8 rfl rfl)
theorem dX14_feed_31 : decode cX14_feed 31 = .ok (.iload_n 3, 1) := dk_29 (dk_at dksX14_feed_1 9 rfl rfl)
theorem dX14_feed_32 : decode cX14_feed 32 = .ok (.invokevirtual 154, 3) := dk_182 0 154 (dk_at dksX14_feed_1 10 rfl rfl)
theorem dX14_feed_35 : decode cX14_feed 35 = .ok (.aload_n 0, 1) := dk_42 (dk_at dksX14_feed_1 13 rfl rfl)
theorem dX14_feed_36 : decode cX14_feed 36 = .ok (.iload 4, 2) := dk_21 4 (dk_at dksX14_feed_1 14 rfl rfl)
theorem dX14_feed_38 : decode cX14_feed 38 = .ok (.invokevirtual 154, 3) := dk_182 0 154 (dk_at dksX14_feed_1 16 rfl rfl)
theorem dX14_feed_41 : decode cX14_feed 41 = .ok (.aload_n 0, 1) := dk_42 (dk_at dksX14_feed_1 19 rfl rfl)
theorem dX14_feed_42 : decode cX14_feed 42 = .ok (.iload 5, 2) := dk_21 5 (dk_at dksX14_feed_1 20 rfl rfl)
theorem dX14_feed_44 : decode cX14_feed 44 = .ok (.invokevirtual 154, 3) := dk_182 0 154 (dk_at dksX14_feed_2 0 rfl rfl)
theorem dX14_feed_47 : decode cX14_feed 47 = .ok (.aload_n 0, 1) := dk_42 (dk_at dksX14_feed_2 3 rfl rfl)
theorem dX14_feed_48 : decode cX14_feed 48 = .ok (.getfield 151, 3) := dk_180 0 151 (dk_at dksX14_feed_2 4 rfl rfl)
theorem dX14_feed_51 : decode cX14_feed 51 = .ok (.ireturn, 1) := dk_172 (dk_at dksX14_feed_2 7 rfl rfl)
abbrev cX14_come : ByteArray := prog_23_method_4_code
def yX14_come : MethodName := ⟨RX14, "come", "(I)V"⟩
def dkwX14_come_1 : List UInt8 := [89, 180, 0, 151, 4, 96, 181, 0, 151, 132, 2, 248, 167, 255, 223, 177]
abbrev dktX14_come_1 : List UInt8 := dkwX14_come_1 ++ []
def dkwX14_come_0 : List UInt8 := [16, 24, 61, 28, 155, 0, 35, 42, 180, 0, 7, 42, 180, 0, 151, 27, 28, 124, 17, 0, 255, 126, 79, 42]
abbrev dktX14_come_0 : List UInt8 := dkwX14_come_0 ++ dktX14_come_1
theorem dksX14_come_0 : cX14_come.data.toList.drop 0 = dktX14_come_0 := by decide +kernel
theorem dksX14_come_1 : cX14_come.data.toList.drop 24 = dktX14_come_1 := dk_seg dksX14_come_0 24 rfl rfl
theorem dX14_come_0 : decode cX14_come 0 = .ok (.bipush 24, 2) := dk_16 24 (dk_at dksX14_come_0 0 rfl rfl)
theorem dX14_come_2 : decode cX14_come 2 = .ok (.istore_n 2, 1) := dk_61 (dk_at dksX14_come_0 2 rfl rfl)
theorem dX14_come_3 : decode cX14_come 3 = .ok (.iload_n 2, 1) := dk_28 (dk_at dksX14_come_0 3 rfl rfl)
theorem dX14_come_4 : decode cX14_come 4 = .ok (.ifCond .lt 35, 3) := dk_155 0 35 (dk_at dksX14_come_0 4 rfl rfl)
theorem dX14_come_7 : decode cX14_come 7 = .ok (.aload_n 0, 1) := dk_42 (dk_at dksX14_come_0 7 rfl rfl)
theorem dX14_come_8 : decode cX14_come 8 = .ok (.getfield 7, 3) := dk_180 0 7 (dk_at dksX14_come_0 8 rfl rfl)
theorem dX14_come_11 : decode cX14_come 11 = .ok (.aload_n 0, 1) := dk_42 (dk_at dksX14_come_0 11 rfl rfl)
theorem dX14_come_12 : decode cX14_come 12 = .ok (.getfield 151, 3) := dk_180 0 151 (dk_at dksX14_come_0 12 rfl rfl)
theorem dX14_come_15 : decode cX14_come 15 = .ok (.iload_n 1, 1) := dk_27 (dk_at dksX14_come_0 15 rfl rfl)
theorem dX14_come_16 : decode cX14_come 16 = .ok (.iload_n 2, 1) := dk_28 (dk_at dksX14_come_0 16 rfl rfl)
theorem dX14_come_17 : decode cX14_come 17 = .ok (.iushr, 1) := dk_124 (dk_at dksX14_come_0 17 rfl rfl)
theorem dX14_come_18 : decode cX14_come 18 = .ok (.sipush 255, 3) := dk_17 0 255 (dk_at dksX14_come_0 18 rfl rfl)
theorem dX14_come_21 : decode cX14_come 21 = .ok (.iand, 1) := dk_126 (dk_at dksX14_come_0 21 rfl rfl)
theorem dX14_come_22 : decode cX14_come 22 = .ok (.iastore, 1) := dk_79 (dk_at dksX14_come_0 22 rfl rfl)
theorem dX14_come_23 : decode cX14_come 23 = .ok (.aload_n 0, 1) := dk_42 (dk_at dksX14_come_0 23 rfl rfl)
theorem dX14_come_24 : decode cX14_come 24 = .ok (.dup, 1) := dk_89 (dk_at dksX14_come_1 0 rfl rfl)
theorem dX14_come_25 : decode cX14_come 25 = .ok (.getfield 151, 3) := dk_180 0 151 (dk_at dksX14_come_1 1 rfl rfl)
theorem dX14_come_28 : decode cX14_come 28 = .ok (.iconst 1, 1) := dk_4 (dk_at dksX14_come_1 4 rfl rfl)
theorem dX14_come_29 : decode cX14_come 29 = .ok (.iadd, 1) := dk_96 (dk_at dksX14_come_1 5 rfl rfl)
theorem dX14_come_30 : decode cX14_come 30 = .ok (.putfield 151, 3) := dk_181 0 151 (dk_at dksX14_come_1 6 rfl rfl)
theorem dX14_come_33 : decode cX14_come 33 = .ok (.iinc 2 (-8), 3) := dk_132 2 248 (dk_at dksX14_come_1 9 rfl rfl)
theorem dX14_come_36 : decode cX14_come 36 = .ok (.goto (-33), 3) := dk_167 255 223 (dk_at dksX14_come_1 12 rfl rfl)
theorem dX14_come_39 : decode cX14_come 39 = .ok (.return_, 1) := dk_177 (dk_at dksX14_come_1 15 rfl rfl)
abbrev cX14_end : ByteArray := prog_23_method_6_code
def yX14_end : MethodName := ⟨RX14, "end", "(I)Z"⟩
def dkwX14_end_1 : List UInt8 := [4, 172]
abbrev dktX14_end_1 : List UInt8 := dkwX14_end_1 ++ []
def dkwX14_end_0 : List UInt8 := [42, 3, 181, 0, 148, 27, 155, 0, 11, 27, 42, 180, 0, 151, 164, 0, 5, 3, 172, 42, 27, 181, 0, 151]
abbrev dktX14_end_0 : List UInt8 := dkwX14_end_0 ++ dktX14_end_1
theorem dksX14_end_0 : cX14_end.data.toList.drop 0 = dktX14_end_0 := by decide +kernel
theorem dksX14_end_1 : cX14_end.data.toList.drop 24 = dktX14_end_1 := dk_seg dksX14_end_0 24 rfl rfl
theorem dX14_end_0 : decode cX14_end 0 = .ok (.aload_n 0, 1) := dk_42 (dk_at dksX14_end_0 0 rfl rfl)
theorem dX14_end_1 : decode cX14_end 1 = .ok (.iconst 0, 1) := dk_3 (dk_at dksX14_end_0 1 rfl rfl)
theorem dX14_end_2 : decode cX14_end 2 = .ok (.putfield 148, 3) := dk_181 0 148 (dk_at dksX14_end_0 2 rfl rfl)
theorem dX14_end_5 : decode cX14_end 5 = .ok (.iload_n 1, 1) := dk_27 (dk_at dksX14_end_0 5 rfl rfl)
theorem dX14_end_6 : decode cX14_end 6 = .ok (.ifCond .lt 11, 3) := dk_155 0 11 (dk_at dksX14_end_0 6 rfl rfl)
theorem dX14_end_9 : decode cX14_end 9 = .ok (.iload_n 1, 1) := dk_27 (dk_at dksX14_end_0 9 rfl rfl)
theorem dX14_end_10 : decode cX14_end 10 = .ok (.aload_n 0, 1) := dk_42 (dk_at dksX14_end_0 10 rfl rfl)
theorem dX14_end_11 : decode cX14_end 11 = .ok (.getfield 151, 3) := dk_180 0 151 (dk_at dksX14_end_0 11 rfl rfl)
theorem dX14_end_14 : decode cX14_end 14 = .ok (.if_icmp .le 5, 3) := dk_164 0 5 (dk_at dksX14_end_0 14 rfl rfl)
theorem dX14_end_17 : decode cX14_end 17 = .ok (.iconst 0, 1) := dk_3 (dk_at dksX14_end_0 17 rfl rfl)
theorem dX14_end_18 : decode cX14_end 18 = .ok (.ireturn, 1) := dk_172 (dk_at dksX14_end_0 18 rfl rfl)
theorem dX14_end_19 : decode cX14_end 19 = .ok (.aload_n 0, 1) := dk_42 (dk_at dksX14_end_0 19 rfl rfl)
theorem dX14_end_20 : decode cX14_end 20 = .ok (.iload_n 1, 1) := dk_27 (dk_at dksX14_end_0 20 rfl rfl)
theorem dX14_end_21 : decode cX14_end 21 = .ok (.putfield 151, 3) := dk_181 0 151 (dk_at dksX14_end_0 21 rfl rfl)
theorem dX14_end_24 : decode cX14_end 24 = .ok (.iconst 1, 1) := dk_4 (dk_at dksX14_end_1 0 rfl rfl)
theorem dX14_end_25 : decode cX14_end 25 = .ok (.ireturn, 1) := dk_172 (dk_at dksX14_end_1 1 rfl rfl)
abbrev cX14_yard : ByteArray := prog_23_method_37_code
def yX14_yard : MethodName := ⟨RX14, "yard", "()I"⟩
def dkwX14_yard_5 : List UInt8 := [3, 79, 27, 172]
abbrev dktX14_yard_5 : List UInt8 := dkwX14_yard_5 ++ []
def dkwX14_yard_4 : List UInt8 := [47, 80, 132, 2, 1, 167, 255, 235, 42, 180, 0, 13, 17, 0, 200, 3, 79, 42, 180, 0, 13, 17, 2, 28]
abbrev dktX14_yard_4 : List UInt8 := dkwX14_yard_4 ++ dktX14_yard_5
def dkwX14_yard_3 : List UInt8 := [132, 2, 1, 167, 255, 234, 3, 61, 28, 16, 12, 162, 0, 21, 42, 180, 0, 25, 28, 42, 180, 0, 29, 28]
abbrev dktX14_yard_3 : List UInt8 := dkwX14_yard_3 ++ dktX14_yard_4
def dkwX14_yard_2 : List UInt8 := [167, 255, 232, 3, 61, 28, 17, 0, 200, 162, 0, 21, 42, 180, 0, 13, 28, 42, 180, 0, 16, 28, 46, 79]
abbrev dktX14_yard_2 : List UInt8 := dkwX14_yard_2 ++ dktX14_yard_3
def dkwX14_yard_1 : List UInt8 := [180, 0, 170, 153, 0, 23, 42, 182, 1, 29, 154, 0, 10, 2, 42, 180, 0, 213, 100, 172, 132, 1, 1]
abbrev dktX14_yard_1 : List UInt8 := dkwX14_yard_1 ++ dktX14_yard_2
def dkwX14_yard_0 : List UInt8 := [42, 17, 2, 188, 182, 1, 26, 42, 180, 0, 16, 184, 0, 243, 42, 3, 181, 0, 255, 3, 60, 42]
abbrev dktX14_yard_0 : List UInt8 := dkwX14_yard_0 ++ dktX14_yard_1
theorem dksX14_yard_0 : cX14_yard.data.toList.drop 0 = dktX14_yard_0 := by decide +kernel
theorem dksX14_yard_1 : cX14_yard.data.toList.drop 22 = dktX14_yard_1 := dk_seg dksX14_yard_0 22 rfl rfl
theorem dksX14_yard_2 : cX14_yard.data.toList.drop 45 = dktX14_yard_2 := dk_seg dksX14_yard_1 23 rfl rfl
theorem dksX14_yard_3 : cX14_yard.data.toList.drop 69 = dktX14_yard_3 := dk_seg dksX14_yard_2 24 rfl rfl
theorem dksX14_yard_4 : cX14_yard.data.toList.drop 93 = dktX14_yard_4 := dk_seg dksX14_yard_3 24 rfl rfl
theorem dksX14_yard_5 : cX14_yard.data.toList.drop 117 = dktX14_yard_5 := dk_seg dksX14_yard_4 24 rfl rfl
theorem dX14_yard_0 : decode cX14_yard 0 = .ok (.aload_n 0, 1) := dk_42 (dk_at dksX14_yard_0 0 rfl rfl)
theorem dX14_yard_1 : decode cX14_yard 1 = .ok (.sipush 700, 3) := dk_17 2 188 (dk_at dksX14_yard_0 1 rfl rfl)
theorem dX14_yard_4 : decode cX14_yard 4 = .ok (.invokevirtual 282, 3) := dk_182 1 26 (dk_at dksX14_yard_0 4 rfl rfl)
theorem dX14_yard_7 : decode cX14_yard 7 = .ok (.aload_n 0, 1) := dk_42 (dk_at dksX14_yard_0 7 rfl rfl)
theorem dX14_yard_8 : decode cX14_yard 8 = .ok (.getfield 16, 3) := dk_180 0 16 (dk_at dksX14_yard_0 8 rfl rfl)
theorem dX14_yard_11 : decode cX14_yard 11 = .ok (.invokestatic 243, 3) := dk_184 0 243 (dk_at dksX14_yard_0 11 rfl rfl)
theorem dX14_yard_14 : decode cX14_yard 14 = .ok (.aload_n 0, 1) := dk_42 (dk_at dksX14_yard_0 14 rfl rfl)
theorem dX14_yard_15 : decode cX14_yard 15 = .ok (.iconst 0, 1) := dk_3 (dk_at dksX14_yard_0 15 rfl rfl)
theorem dX14_yard_16 : decode cX14_yard 16 = .ok (.putfield 255, 3) := dk_181 0 255 (dk_at dksX14_yard_0 16 rfl rfl)
theorem dX14_yard_19 : decode cX14_yard 19 = .ok (.iconst 0, 1) := dk_3 (dk_at dksX14_yard_0 19 rfl rfl)
theorem dX14_yard_20 : decode cX14_yard 20 = .ok (.istore_n 1, 1) := dk_60 (dk_at dksX14_yard_0 20 rfl rfl)
theorem dX14_yard_21 : decode cX14_yard 21 = .ok (.aload_n 0, 1) := dk_42 (dk_at dksX14_yard_0 21 rfl rfl)
theorem dX14_yard_22 : decode cX14_yard 22 = .ok (.getfield 170, 3) := dk_180 0 170 (dk_at dksX14_yard_1 0 rfl rfl)
theorem dX14_yard_25 : decode cX14_yard 25 = .ok (.ifCond .eq 23, 3) := dk_153 0 23 (dk_at dksX14_yard_1 3 rfl rfl)
theorem dX14_yard_28 : decode cX14_yard 28 = .ok (.aload_n 0, 1) := dk_42 (dk_at dksX14_yard_1 6 rfl rfl)
theorem dX14_yard_29 : decode cX14_yard 29 = .ok (.invokevirtual 285, 3) := dk_182 1 29 (dk_at dksX14_yard_1 7 rfl rfl)
theorem dX14_yard_32 : decode cX14_yard 32 = .ok (.ifCond .ne 10, 3) := dk_154 0 10 (dk_at dksX14_yard_1 10 rfl rfl)
theorem dX14_yard_35 : decode cX14_yard 35 = .ok (.iconst (-1), 1) := dk_2 (dk_at dksX14_yard_1 13 rfl rfl)
theorem dX14_yard_36 : decode cX14_yard 36 = .ok (.aload_n 0, 1) := dk_42 (dk_at dksX14_yard_1 14 rfl rfl)
theorem dX14_yard_37 : decode cX14_yard 37 = .ok (.getfield 213, 3) := dk_180 0 213 (dk_at dksX14_yard_1 15 rfl rfl)
theorem dX14_yard_40 : decode cX14_yard 40 = .ok (.isub, 1) := dk_100 (dk_at dksX14_yard_1 18 rfl rfl)
theorem dX14_yard_41 : decode cX14_yard 41 = .ok (.ireturn, 1) := dk_172 (dk_at dksX14_yard_1 19 rfl rfl)
theorem dX14_yard_42 : decode cX14_yard 42 = .ok (.iinc 1 1, 3) := dk_132 1 1 (dk_at dksX14_yard_1 20 rfl rfl)
theorem dX14_yard_45 : decode cX14_yard 45 = .ok (.goto (-24), 3) := dk_167 255 232 (dk_at dksX14_yard_2 0 rfl rfl)
theorem dX14_yard_48 : decode cX14_yard 48 = .ok (.iconst 0, 1) := dk_3 (dk_at dksX14_yard_2 3 rfl rfl)
theorem dX14_yard_49 : decode cX14_yard 49 = .ok (.istore_n 2, 1) := dk_61 (dk_at dksX14_yard_2 4 rfl rfl)
theorem dX14_yard_50 : decode cX14_yard 50 = .ok (.iload_n 2, 1) := dk_28 (dk_at dksX14_yard_2 5 rfl rfl)
theorem dX14_yard_51 : decode cX14_yard 51 = .ok (.sipush 200, 3) := dk_17 0 200 (dk_at dksX14_yard_2 6 rfl rfl)
theorem dX14_yard_54 : decode cX14_yard 54 = .ok (.if_icmp .ge 21, 3) := dk_162 0 21 (dk_at dksX14_yard_2 9 rfl rfl)
theorem dX14_yard_57 : decode cX14_yard 57 = .ok (.aload_n 0, 1) := dk_42 (dk_at dksX14_yard_2 12 rfl rfl)
theorem dX14_yard_58 : decode cX14_yard 58 = .ok (.getfield 13, 3) := dk_180 0 13 (dk_at dksX14_yard_2 13 rfl rfl)
theorem dX14_yard_61 : decode cX14_yard 61 = .ok (.iload_n 2, 1) := dk_28 (dk_at dksX14_yard_2 16 rfl rfl)
theorem dX14_yard_62 : decode cX14_yard 62 = .ok (.aload_n 0, 1) := dk_42 (dk_at dksX14_yard_2 17 rfl rfl)
theorem dX14_yard_63 : decode cX14_yard 63 = .ok (.getfield 16, 3) := dk_180 0 16 (dk_at dksX14_yard_2 18 rfl rfl)
theorem dX14_yard_66 : decode cX14_yard 66 = .ok (.iload_n 2, 1) := dk_28 (dk_at dksX14_yard_2 21 rfl rfl)
theorem dX14_yard_67 : decode cX14_yard 67 = .ok (.iaload, 1) := dk_46 (dk_at dksX14_yard_2 22 rfl rfl)
theorem dX14_yard_68 : decode cX14_yard 68 = .ok (.iastore, 1) := dk_79 (dk_at dksX14_yard_2 23 rfl rfl)
theorem dX14_yard_69 : decode cX14_yard 69 = .ok (.iinc 2 1, 3) := dk_132 2 1 (dk_at dksX14_yard_3 0 rfl rfl)
theorem dX14_yard_72 : decode cX14_yard 72 = .ok (.goto (-22), 3) := dk_167 255 234 (dk_at dksX14_yard_3 3 rfl rfl)
theorem dX14_yard_75 : decode cX14_yard 75 = .ok (.iconst 0, 1) := dk_3 (dk_at dksX14_yard_3 6 rfl rfl)
theorem dX14_yard_76 : decode cX14_yard 76 = .ok (.istore_n 2, 1) := dk_61 (dk_at dksX14_yard_3 7 rfl rfl)
theorem dX14_yard_77 : decode cX14_yard 77 = .ok (.iload_n 2, 1) := dk_28 (dk_at dksX14_yard_3 8 rfl rfl)
theorem dX14_yard_78 : decode cX14_yard 78 = .ok (.bipush 12, 2) := dk_16 12 (dk_at dksX14_yard_3 9 rfl rfl)
theorem dX14_yard_80 : decode cX14_yard 80 = .ok (.if_icmp .ge 21, 3) := dk_162 0 21 (dk_at dksX14_yard_3 11 rfl rfl)
theorem dX14_yard_83 : decode cX14_yard 83 = .ok (.aload_n 0, 1) := dk_42 (dk_at dksX14_yard_3 14 rfl rfl)
theorem dX14_yard_84 : decode cX14_yard 84 = .ok (.getfield 25, 3) := dk_180 0 25 (dk_at dksX14_yard_3 15 rfl rfl)
theorem dX14_yard_87 : decode cX14_yard 87 = .ok (.iload_n 2, 1) := dk_28 (dk_at dksX14_yard_3 18 rfl rfl)
theorem dX14_yard_88 : decode cX14_yard 88 = .ok (.aload_n 0, 1) := dk_42 (dk_at dksX14_yard_3 19 rfl rfl)
theorem dX14_yard_89 : decode cX14_yard 89 = .ok (.getfield 29, 3) := dk_180 0 29 (dk_at dksX14_yard_3 20 rfl rfl)
theorem dX14_yard_92 : decode cX14_yard 92 = .ok (.iload_n 2, 1) := dk_28 (dk_at dksX14_yard_3 23 rfl rfl)
theorem dX14_yard_93 : decode cX14_yard 93 = .ok (.laload, 1) := dk_47 (dk_at dksX14_yard_4 0 rfl rfl)
theorem dX14_yard_94 : decode cX14_yard 94 = .ok (.lastore, 1) := dk_80 (dk_at dksX14_yard_4 1 rfl rfl)
theorem dX14_yard_95 : decode cX14_yard 95 = .ok (.iinc 2 1, 3) := dk_132 2 1 (dk_at dksX14_yard_4 2 rfl rfl)
theorem dX14_yard_98 : decode cX14_yard 98 = .ok (.goto (-21), 3) := dk_167 255 235 (dk_at dksX14_yard_4 5 rfl rfl)
theorem dX14_yard_101 : decode cX14_yard 101 = .ok (.aload_n 0, 1) := dk_42 (dk_at dksX14_yard_4 8 rfl rfl)
theorem dX14_yard_102 : decode cX14_yard 102 = .ok (.getfield 13, 3) := dk_180 0 13 (dk_at dksX14_yard_4 9 rfl rfl)
theorem dX14_yard_105 : decode cX14_yard 105 = .ok (.sipush 200, 3) := dk_17 0 200 (dk_at dksX14_yard_4 12 rfl rfl)
theorem dX14_yard_108 : decode cX14_yard 108 = .ok (.iconst 0, 1) := dk_3 (dk_at dksX14_yard_4 15 rfl rfl)
theorem dX14_yard_109 : decode cX14_yard 109 = .ok (.iastore, 1) := dk_79 (dk_at dksX14_yard_4 16 rfl rfl)
theorem dX14_yard_110 : decode cX14_yard 110 = .ok (.aload_n 0, 1) := dk_42 (dk_at dksX14_yard_4 17 rfl rfl)
theorem dX14_yard_111 : decode cX14_yard 111 = .ok (.getfield 13, 3) := dk_180 0 13 (dk_at dksX14_yard_4 18 rfl rfl)
theorem dX14_yard_114 : decode cX14_yard 114 = .ok (.sipush 540, 3) := dk_17 2 28 (dk_at dksX14_yard_4 21 rfl rfl)
theorem dX14_yard_117 : decode cX14_yard 117 = .ok (.iconst 0, 1) := dk_3 (dk_at dksX14_yard_5 0 rfl rfl)
theorem dX14_yard_118 : decode cX14_yard 118 = .ok (.iastore, 1) := dk_79 (dk_at dksX14_yard_5 1 rfl rfl)
theorem dX14_yard_119 : decode cX14_yard 119 = .ok (.iload_n 1, 1) := dk_27 (dk_at dksX14_yard_5 2 rfl rfl)
theorem dX14_yard_120 : decode cX14_yard 120 = .ok (.ireturn, 1) := dk_172 (dk_at dksX14_yard_5 3 rfl rfl)
abbrev cX14_begin : ByteArray := prog_23_method_24_code
def yX14_begin : MethodName := ⟨RX14, "begin", "(I)V"⟩
def dkwX14_begin_1 : List UInt8 := [181, 0, 210, 42, 3, 181, 0, 161, 42, 182, 0, 226, 177]
abbrev dktX14_begin_1 : List UInt8 := dkwX14_begin_1 ++ []
def dkwX14_begin_0 : List UInt8 := [42, 3, 181, 0, 148, 42, 182, 0, 232, 42, 42, 182, 0, 235, 181, 0, 158, 42, 27, 181, 0, 167, 42, 3]
abbrev dktX14_begin_0 : List UInt8 := dkwX14_begin_0 ++ dktX14_begin_1
theorem dksX14_begin_0 : cX14_begin.data.toList.drop 0 = dktX14_begin_0 := by decide +kernel
theorem dksX14_begin_1 : cX14_begin.data.toList.drop 24 = dktX14_begin_1 := dk_seg dksX14_begin_0 24 rfl rfl
theorem dX14_begin_0 : decode cX14_begin 0 = .ok (.aload_n 0, 1) := dk_42 (dk_at dksX14_begin_0 0 rfl rfl)
theorem dX14_begin_1 : decode cX14_begin 1 = .ok (.iconst 0, 1) := dk_3 (dk_at dksX14_begin_0 1 rfl rfl)
theorem dX14_begin_2 : decode cX14_begin 2 = .ok (.putfield 148, 3) := dk_181 0 148 (dk_at dksX14_begin_0 2 rfl rfl)
theorem dX14_begin_5 : decode cX14_begin 5 = .ok (.aload_n 0, 1) := dk_42 (dk_at dksX14_begin_0 5 rfl rfl)
theorem dX14_begin_6 : decode cX14_begin 6 = .ok (.invokevirtual 232, 3) := dk_182 0 232 (dk_at dksX14_begin_0 6 rfl rfl)
theorem dX14_begin_9 : decode cX14_begin 9 = .ok (.aload_n 0, 1) := dk_42 (dk_at dksX14_begin_0 9 rfl rfl)
theorem dX14_begin_10 : decode cX14_begin 10 = .ok (.aload_n 0, 1) := dk_42 (dk_at dksX14_begin_0 10 rfl rfl)
theorem dX14_begin_11 : decode cX14_begin 11 = .ok (.invokevirtual 235, 3) := dk_182 0 235 (dk_at dksX14_begin_0 11 rfl rfl)
theorem dX14_begin_14 : decode cX14_begin 14 = .ok (.putfield 158, 3) := dk_181 0 158 (dk_at dksX14_begin_0 14 rfl rfl)
theorem dX14_begin_17 : decode cX14_begin 17 = .ok (.aload_n 0, 1) := dk_42 (dk_at dksX14_begin_0 17 rfl rfl)
theorem dX14_begin_18 : decode cX14_begin 18 = .ok (.iload_n 1, 1) := dk_27 (dk_at dksX14_begin_0 18 rfl rfl)
theorem dX14_begin_19 : decode cX14_begin 19 = .ok (.putfield 167, 3) := dk_181 0 167 (dk_at dksX14_begin_0 19 rfl rfl)
theorem dX14_begin_22 : decode cX14_begin 22 = .ok (.aload_n 0, 1) := dk_42 (dk_at dksX14_begin_0 22 rfl rfl)
theorem dX14_begin_23 : decode cX14_begin 23 = .ok (.iconst 0, 1) := dk_3 (dk_at dksX14_begin_0 23 rfl rfl)
theorem dX14_begin_24 : decode cX14_begin 24 = .ok (.putfield 210, 3) := dk_181 0 210 (dk_at dksX14_begin_1 0 rfl rfl)
theorem dX14_begin_27 : decode cX14_begin 27 = .ok (.aload_n 0, 1) := dk_42 (dk_at dksX14_begin_1 3 rfl rfl)
theorem dX14_begin_28 : decode cX14_begin 28 = .ok (.iconst 0, 1) := dk_3 (dk_at dksX14_begin_1 4 rfl rfl)
theorem dX14_begin_29 : decode cX14_begin 29 = .ok (.putfield 161, 3) := dk_181 0 161 (dk_at dksX14_begin_1 5 rfl rfl)
theorem dX14_begin_32 : decode cX14_begin 32 = .ok (.aload_n 0, 1) := dk_42 (dk_at dksX14_begin_1 8 rfl rfl)
theorem dX14_begin_33 : decode cX14_begin 33 = .ok (.invokevirtual 226, 3) := dk_182 0 226 (dk_at dksX14_begin_1 9 rfl rfl)
theorem dX14_begin_36 : decode cX14_begin 36 = .ok (.return_, 1) := dk_177 (dk_at dksX14_begin_1 12 rfl rfl)
abbrev cX14_lay : ByteArray := prog_23_method_25_code
def yX14_lay : MethodName := ⟨RX14, "lay", "()V"⟩
def dkwX14_lay_0 : List UInt8 := [42, 180, 0, 239, 153, 0, 4, 177, 42, 4, 181, 0, 239, 42, 180, 0, 13, 184, 0, 243, 177]
abbrev dktX14_lay_0 : List UInt8 := dkwX14_lay_0 ++ []
theorem dksX14_lay_0 : cX14_lay.data.toList.drop 0 = dktX14_lay_0 := by decide +kernel
theorem dX14_lay_0 : decode cX14_lay 0 = .ok (.aload_n 0, 1) := dk_42 (dk_at dksX14_lay_0 0 rfl rfl)
theorem dX14_lay_1 : decode cX14_lay 1 = .ok (.getfield 239, 3) := dk_180 0 239 (dk_at dksX14_lay_0 1 rfl rfl)
theorem dX14_lay_4 : decode cX14_lay 4 = .ok (.ifCond .eq 4, 3) := dk_153 0 4 (dk_at dksX14_lay_0 4 rfl rfl)
theorem dX14_lay_7 : decode cX14_lay 7 = .ok (.return_, 1) := dk_177 (dk_at dksX14_lay_0 7 rfl rfl)
theorem dX14_lay_8 : decode cX14_lay 8 = .ok (.aload_n 0, 1) := dk_42 (dk_at dksX14_lay_0 8 rfl rfl)
theorem dX14_lay_9 : decode cX14_lay 9 = .ok (.iconst 1, 1) := dk_4 (dk_at dksX14_lay_0 9 rfl rfl)
theorem dX14_lay_10 : decode cX14_lay 10 = .ok (.putfield 239, 3) := dk_181 0 239 (dk_at dksX14_lay_0 10 rfl rfl)
theorem dX14_lay_13 : decode cX14_lay 13 = .ok (.aload_n 0, 1) := dk_42 (dk_at dksX14_lay_0 13 rfl rfl)
theorem dX14_lay_14 : decode cX14_lay 14 = .ok (.getfield 13, 3) := dk_180 0 13 (dk_at dksX14_lay_0 14 rfl rfl)
theorem dX14_lay_17 : decode cX14_lay 17 = .ok (.invokestatic 243, 3) := dk_184 0 243 (dk_at dksX14_lay_0 17 rfl rfl)
theorem dX14_lay_20 : decode cX14_lay 20 = .ok (.return_, 1) := dk_177 (dk_at dksX14_lay_0 20 rfl rfl)
abbrev cX14_standard : ByteArray := prog_23_method_26_code
def yX14_standard : MethodName := ⟨RX14, "standard", "([I)V"⟩
def dkwX14_standard_2 : List UInt8 := [16, 20, 79, 42, 16, 8, 5, 79, 42, 16, 11, 2, 79, 177]
abbrev dktX14_standard_2 : List UInt8 := dkwX14_standard_2 ++ []
def dkwX14_standard_1 : List UInt8 := [42, 5, 16, 6, 79, 42, 6, 16, 8, 79, 42, 7, 8, 79, 42, 8, 17, 39, 15, 79, 42, 16, 7]
abbrev dktX14_standard_1 : List UInt8 := dkwX14_standard_1 ++ dktX14_standard_2
def dkwX14_standard_0 : List UInt8 := [3, 60, 27, 17, 0, 200, 162, 0, 13, 42, 27, 3, 79, 132, 1, 1, 167, 255, 242, 42, 4, 16, 30, 79]
abbrev dktX14_standard_0 : List UInt8 := dkwX14_standard_0 ++ dktX14_standard_1
theorem dksX14_standard_0 : cX14_standard.data.toList.drop 0 = dktX14_standard_0 := by decide +kernel
theorem dksX14_standard_1 : cX14_standard.data.toList.drop 24 = dktX14_standard_1 := dk_seg dksX14_standard_0 24 rfl rfl
theorem dksX14_standard_2 : cX14_standard.data.toList.drop 47 = dktX14_standard_2 := dk_seg dksX14_standard_1 23 rfl rfl
theorem dX14_standard_0 : decode cX14_standard 0 = .ok (.iconst 0, 1) := dk_3 (dk_at dksX14_standard_0 0 rfl rfl)
theorem dX14_standard_1 : decode cX14_standard 1 = .ok (.istore_n 1, 1) := dk_60 (dk_at dksX14_standard_0 1 rfl rfl)
theorem dX14_standard_2 : decode cX14_standard 2 = .ok (.iload_n 1, 1) := dk_27 (dk_at dksX14_standard_0 2 rfl rfl)
theorem dX14_standard_3 : decode cX14_standard 3 = .ok (.sipush 200, 3) := dk_17 0 200 (dk_at dksX14_standard_0 3 rfl rfl)
theorem dX14_standard_6 : decode cX14_standard 6 = .ok (.if_icmp .ge 13, 3) := dk_162 0 13 (dk_at dksX14_standard_0 6 rfl rfl)
theorem dX14_standard_9 : decode cX14_standard 9 = .ok (.aload_n 0, 1) := dk_42 (dk_at dksX14_standard_0 9 rfl rfl)
theorem dX14_standard_10 : decode cX14_standard 10 = .ok (.iload_n 1, 1) := dk_27 (dk_at dksX14_standard_0 10 rfl rfl)
theorem dX14_standard_11 : decode cX14_standard 11 = .ok (.iconst 0, 1) := dk_3 (dk_at dksX14_standard_0 11 rfl rfl)
theorem dX14_standard_12 : decode cX14_standard 12 = .ok (.iastore, 1) := dk_79 (dk_at dksX14_standard_0 12 rfl rfl)
theorem dX14_standard_13 : decode cX14_standard 13 = .ok (.iinc 1 1, 3) := dk_132 1 1 (dk_at dksX14_standard_0 13 rfl rfl)
theorem dX14_standard_16 : decode cX14_standard 16 = .ok (.goto (-14), 3) := dk_167 255 242 (dk_at dksX14_standard_0 16 rfl rfl)
theorem dX14_standard_19 : decode cX14_standard 19 = .ok (.aload_n 0, 1) := dk_42 (dk_at dksX14_standard_0 19 rfl rfl)
theorem dX14_standard_20 : decode cX14_standard 20 = .ok (.iconst 1, 1) := dk_4 (dk_at dksX14_standard_0 20 rfl rfl)
theorem dX14_standard_21 : decode cX14_standard 21 = .ok (.bipush 30, 2) := dk_16 30 (dk_at dksX14_standard_0 21 rfl rfl)
theorem dX14_standard_23 : decode cX14_standard 23 = .ok (.iastore, 1) := dk_79 (dk_at dksX14_standard_0 23 rfl rfl)
theorem dX14_standard_24 : decode cX14_standard 24 = .ok (.aload_n 0, 1) := dk_42 (dk_at dksX14_standard_1 0 rfl rfl)
theorem dX14_standard_25 : decode cX14_standard 25 = .ok (.iconst 2, 1) := dk_5 (dk_at dksX14_standard_1 1 rfl rfl)
theorem dX14_standard_26 : decode cX14_standard 26 = .ok (.bipush 6, 2) := dk_16 6 (dk_at dksX14_standard_1 2 rfl rfl)
theorem dX14_standard_28 : decode cX14_standard 28 = .ok (.iastore, 1) := dk_79 (dk_at dksX14_standard_1 4 rfl rfl)
theorem dX14_standard_29 : decode cX14_standard 29 = .ok (.aload_n 0, 1) := dk_42 (dk_at dksX14_standard_1 5 rfl rfl)
theorem dX14_standard_30 : decode cX14_standard 30 = .ok (.iconst 3, 1) := dk_6 (dk_at dksX14_standard_1 6 rfl rfl)
theorem dX14_standard_31 : decode cX14_standard 31 = .ok (.bipush 8, 2) := dk_16 8 (dk_at dksX14_standard_1 7 rfl rfl)
theorem dX14_standard_33 : decode cX14_standard 33 = .ok (.iastore, 1) := dk_79 (dk_at dksX14_standard_1 9 rfl rfl)
theorem dX14_standard_34 : decode cX14_standard 34 = .ok (.aload_n 0, 1) := dk_42 (dk_at dksX14_standard_1 10 rfl rfl)
theorem dX14_standard_35 : decode cX14_standard 35 = .ok (.iconst 4, 1) := dk_7 (dk_at dksX14_standard_1 11 rfl rfl)
theorem dX14_standard_36 : decode cX14_standard 36 = .ok (.iconst 5, 1) := dk_8 (dk_at dksX14_standard_1 12 rfl rfl)
theorem dX14_standard_37 : decode cX14_standard 37 = .ok (.iastore, 1) := dk_79 (dk_at dksX14_standard_1 13 rfl rfl)
theorem dX14_standard_38 : decode cX14_standard 38 = .ok (.aload_n 0, 1) := dk_42 (dk_at dksX14_standard_1 14 rfl rfl)
theorem dX14_standard_39 : decode cX14_standard 39 = .ok (.iconst 5, 1) := dk_8 (dk_at dksX14_standard_1 15 rfl rfl)
theorem dX14_standard_40 : decode cX14_standard 40 = .ok (.sipush 9999, 3) := dk_17 39 15 (dk_at dksX14_standard_1 16 rfl rfl)
theorem dX14_standard_43 : decode cX14_standard 43 = .ok (.iastore, 1) := dk_79 (dk_at dksX14_standard_1 19 rfl rfl)
theorem dX14_standard_44 : decode cX14_standard 44 = .ok (.aload_n 0, 1) := dk_42 (dk_at dksX14_standard_1 20 rfl rfl)
theorem dX14_standard_45 : decode cX14_standard 45 = .ok (.bipush 7, 2) := dk_16 7 (dk_at dksX14_standard_1 21 rfl rfl)
theorem dX14_standard_47 : decode cX14_standard 47 = .ok (.bipush 20, 2) := dk_16 20 (dk_at dksX14_standard_2 0 rfl rfl)
theorem dX14_standard_49 : decode cX14_standard 49 = .ok (.iastore, 1) := dk_79 (dk_at dksX14_standard_2 2 rfl rfl)
theorem dX14_standard_50 : decode cX14_standard 50 = .ok (.aload_n 0, 1) := dk_42 (dk_at dksX14_standard_2 3 rfl rfl)
theorem dX14_standard_51 : decode cX14_standard 51 = .ok (.bipush 8, 2) := dk_16 8 (dk_at dksX14_standard_2 4 rfl rfl)
theorem dX14_standard_53 : decode cX14_standard 53 = .ok (.iconst 2, 1) := dk_5 (dk_at dksX14_standard_2 6 rfl rfl)
theorem dX14_standard_54 : decode cX14_standard 54 = .ok (.iastore, 1) := dk_79 (dk_at dksX14_standard_2 7 rfl rfl)
theorem dX14_standard_55 : decode cX14_standard 55 = .ok (.aload_n 0, 1) := dk_42 (dk_at dksX14_standard_2 8 rfl rfl)
theorem dX14_standard_56 : decode cX14_standard 56 = .ok (.bipush 11, 2) := dk_16 11 (dk_at dksX14_standard_2 9 rfl rfl)
theorem dX14_standard_58 : decode cX14_standard 58 = .ok (.iconst (-1), 1) := dk_2 (dk_at dksX14_standard_2 11 rfl rfl)
theorem dX14_standard_59 : decode cX14_standard 59 = .ok (.iastore, 1) := dk_79 (dk_at dksX14_standard_2 12 rfl rfl)
theorem dX14_standard_60 : decode cX14_standard 60 = .ok (.return_, 1) := dk_177 (dk_at dksX14_standard_2 13 rfl rfl)
abbrev cX14_take : ByteArray := prog_23_method_7_code
def yX14_take : MethodName := ⟨RX14, "take", "()I"⟩
def dkwX14_take_0 : List UInt8 := [42, 180, 0, 151, 60, 42, 3, 181, 0, 151, 27, 172]
abbrev dktX14_take_0 : List UInt8 := dkwX14_take_0 ++ []
theorem dksX14_take_0 : cX14_take.data.toList.drop 0 = dktX14_take_0 := by decide +kernel
theorem dX14_take_0 : decode cX14_take 0 = .ok (.aload_n 0, 1) := dk_42 (dk_at dksX14_take_0 0 rfl rfl)
theorem dX14_take_1 : decode cX14_take 1 = .ok (.getfield 151, 3) := dk_180 0 151 (dk_at dksX14_take_0 1 rfl rfl)
theorem dX14_take_4 : decode cX14_take 4 = .ok (.istore_n 1, 1) := dk_60 (dk_at dksX14_take_0 4 rfl rfl)
theorem dX14_take_5 : decode cX14_take 5 = .ok (.aload_n 0, 1) := dk_42 (dk_at dksX14_take_0 5 rfl rfl)
theorem dX14_take_6 : decode cX14_take 6 = .ok (.iconst 0, 1) := dk_3 (dk_at dksX14_take_0 6 rfl rfl)
theorem dX14_take_7 : decode cX14_take 7 = .ok (.putfield 151, 3) := dk_181 0 151 (dk_at dksX14_take_0 7 rfl rfl)
theorem dX14_take_10 : decode cX14_take 10 = .ok (.iload_n 1, 1) := dk_27 (dk_at dksX14_take_0 10 rfl rfl)
theorem dX14_take_11 : decode cX14_take 11 = .ok (.ireturn, 1) := dk_172 (dk_at dksX14_take_0 11 rfl rfl)
abbrev cX14_go : ByteArray := prog_23_method_14_code
def yX14_go : MethodName := ⟨RX14, "go", "()V"⟩
def dkwX14_go_17 : List UInt8 := [177]
abbrev dktX14_go_17 : List UInt8 := dkwX14_go_17 ++ []
def dkwX14_go_16 : List UInt8 := [167, 0, 5, 16, 8, 164, 0, 7, 4, 167, 0, 12, 28, 153, 0, 7, 5, 167, 0, 4, 6, 181, 0, 170]
abbrev dktX14_go_16 : List UInt8 := dkwX14_go_16 ++ dktX14_go_17
def dkwX14_go_15 : List UInt8 := [167, 255, 123, 42, 29, 153, 0, 26, 42, 180, 0, 161, 42, 180, 0, 164, 100, 28, 153, 0, 8, 16, 6]
abbrev dktX14_go_15 : List UInt8 := dkwX14_go_15 ++ dktX14_go_16
def dkwX14_go_14 : List UInt8 := [42, 180, 0, 187, 104, 21, 4, 96, 16, 48, 100, 181, 0, 187, 42, 89, 180, 0, 161, 4, 96, 181, 0, 161]
abbrev dktX14_go_14 : List UInt8 := dkwX14_go_14 ++ dktX14_go_15
def dkwX14_go_13 : List UInt8 := [20, 0, 196, 101, 181, 0, 183, 42, 180, 0, 161, 42, 180, 0, 164, 100, 16, 8, 162, 0, 20, 42, 16, 10]
abbrev dktX14_go_13 : List UInt8 := dkwX14_go_13 ++ dktX14_go_14
def dkwX14_go_12 : List UInt8 := [180, 0, 164, 100, 16, 6, 162, 0, 23, 42, 20, 0, 194, 42, 180, 0, 183, 105, 21, 4, 133, 97]
abbrev dktX14_go_12 : List UInt8 := dkwX14_go_12 ++ dktX14_go_13
def dkwX14_go_11 : List UInt8 := [153, 0, 16, 21, 4, 184, 0, 173, 28, 160, 0, 7, 4, 167, 0, 4, 3, 62, 42, 180, 0, 161, 42]
abbrev dktX14_go_11 : List UInt8 := dkwX14_go_11 ++ dktX14_go_12
def dkwX14_go_10 : List UInt8 := [180, 0, 161, 182, 0, 190, 184, 0, 177, 153, 0, 111, 42, 180, 0, 7, 42, 180, 0, 161, 46, 54, 4, 29]
abbrev dktX14_go_10 : List UInt8 := dkwX14_go_10 ++ dktX14_go_11
def dkwX14_go_9 : List UInt8 := [181, 0, 183, 42, 3, 181, 0, 187, 42, 42, 180, 0, 161, 182, 0, 190, 184, 0, 173, 154, 0, 17, 42, 42]
abbrev dktX14_go_9 : List UInt8 := dkwX14_go_9 ++ dktX14_go_10
def dkwX14_go_8 : List UInt8 := [181, 0, 180, 42, 89, 180, 0, 161, 4, 96, 181, 0, 161, 177, 27, 184, 0, 173, 61, 4, 62, 42, 9]
abbrev dktX14_go_8 : List UInt8 := dkwX14_go_8 ++ dktX14_go_9
def dkwX14_go_7 : List UInt8 := [27, 16, 40, 159, 0, 9, 27, 16, 41, 160, 0, 7, 7, 167, 0, 4, 4, 181, 0, 170, 42, 27]
abbrev dktX14_go_7 : List UInt8 := dkwX14_go_7 ++ dktX14_go_8
def dkwX14_go_6 : List UInt8 := [27, 16, 59, 159, 0, 33, 27, 16, 60, 159, 0, 27, 27, 16, 61, 159, 0, 21, 27, 16, 62, 159, 0, 15]
abbrev dktX14_go_6 : List UInt8 := dkwX14_go_6 ++ dktX14_go_7
def dkwX14_go_5 : List UInt8 := [180, 0, 7, 42, 180, 0, 161, 46, 60, 27, 184, 0, 173, 154, 0, 71, 27, 184, 0, 177, 154, 0, 64, 42]
abbrev dktX14_go_5 : List UInt8 := dkwX14_go_5 ++ dktX14_go_6
def dkwX14_go_4 : List UInt8 := [181, 0, 170, 177, 42, 180, 0, 161, 42, 180, 0, 158, 161, 0, 9, 42, 3, 181, 0, 170, 177, 42]
abbrev dktX14_go_4 : List UInt8 := dkwX14_go_4 ++ dktX14_go_5
def dkwX14_go_3 : List UInt8 := [164, 0, 28, 42, 180, 0, 164, 42, 180, 0, 167, 161, 0, 17, 42, 42, 180, 0, 167, 181, 0, 164, 42, 4]
abbrev dktX14_go_3 : List UInt8 := dkwX14_go_3 ++ dktX14_go_4
def dkwX14_go_2 : List UInt8 := [181, 0, 161, 167, 255, 207, 42, 42, 180, 0, 161, 181, 0, 164, 42, 180, 0, 158, 42, 180, 0, 167]
abbrev dktX14_go_2 : List UInt8 := dkwX14_go_2 ++ dktX14_go_3
def dkwX14_go_1 : List UInt8 := [159, 0, 17, 42, 180, 0, 7, 42, 180, 0, 161, 46, 16, 10, 160, 0, 16, 42, 89, 180, 0, 161, 4, 96]
abbrev dktX14_go_1 : List UInt8 := dkwX14_go_1 ++ dktX14_go_2
def dkwX14_go_0 : List UInt8 := [42, 180, 0, 161, 42, 180, 0, 158, 162, 0, 44, 42, 180, 0, 7, 42, 180, 0, 161, 46, 16, 32]
abbrev dktX14_go_0 : List UInt8 := dkwX14_go_0 ++ dktX14_go_1
theorem dksX14_go_0 : cX14_go.data.toList.drop 0 = dktX14_go_0 := by decide +kernel
theorem dksX14_go_1 : cX14_go.data.toList.drop 22 = dktX14_go_1 := dk_seg dksX14_go_0 22 rfl rfl
theorem dksX14_go_2 : cX14_go.data.toList.drop 46 = dktX14_go_2 := dk_seg dksX14_go_1 24 rfl rfl
theorem dksX14_go_3 : cX14_go.data.toList.drop 68 = dktX14_go_3 := dk_seg dksX14_go_2 22 rfl rfl
theorem dksX14_go_4 : cX14_go.data.toList.drop 92 = dktX14_go_4 := dk_seg dksX14_go_3 24 rfl rfl
theorem dksX14_go_5 : cX14_go.data.toList.drop 114 = dktX14_go_5 := dk_seg dksX14_go_4 22 rfl rfl
theorem dksX14_go_6 : cX14_go.data.toList.drop 138 = dktX14_go_6 := dk_seg dksX14_go_5 24 rfl rfl
theorem dksX14_go_7 : cX14_go.data.toList.drop 162 = dktX14_go_7 := dk_seg dksX14_go_6 24 rfl rfl
theorem dksX14_go_8 : cX14_go.data.toList.drop 184 = dktX14_go_8 := dk_seg dksX14_go_7 22 rfl rfl
theorem dksX14_go_9 : cX14_go.data.toList.drop 207 = dktX14_go_9 := dk_seg dksX14_go_8 23 rfl rfl
theorem dksX14_go_10 : cX14_go.data.toList.drop 231 = dktX14_go_10 := dk_seg dksX14_go_9 24 rfl rfl
theorem dksX14_go_11 : cX14_go.data.toList.drop 255 = dktX14_go_11 := dk_seg dksX14_go_10 24 rfl rfl
theorem dksX14_go_12 : cX14_go.data.toList.drop 278 = dktX14_go_12 := dk_seg dksX14_go_11 23 rfl rfl
theorem dksX14_go_13 : cX14_go.data.toList.drop 300 = dktX14_go_13 := dk_seg dksX14_go_12 22 rfl rfl
theorem dksX14_go_14 : cX14_go.data.toList.drop 324 = dktX14_go_14 := dk_seg dksX14_go_13 24 rfl rfl
theorem dksX14_go_15 : cX14_go.data.toList.drop 348 = dktX14_go_15 := dk_seg dksX14_go_14 24 rfl rfl
theorem dksX14_go_16 : cX14_go.data.toList.drop 371 = dktX14_go_16 := dk_seg dksX14_go_15 23 rfl rfl
theorem dksX14_go_17 : cX14_go.data.toList.drop 395 = dktX14_go_17 := dk_seg dksX14_go_16 24 rfl rfl
theorem dX14_go_0 : decode cX14_go 0 = .ok (.aload_n 0, 1) := dk_42 (dk_at dksX14_go_0 0 rfl rfl)
theorem dX14_go_1 : decode cX14_go 1 = .ok (.getfield 161, 3) := dk_180 0 161 (dk_at dksX14_go_0 1 rfl rfl)
theorem dX14_go_4 : decode cX14_go 4 = .ok (.aload_n 0, 1) := dk_42 (dk_at dksX14_go_0 4 rfl rfl)
theorem dX14_go_5 : decode cX14_go 5 = .ok (.getfield 158, 3) := dk_180 0 158 (dk_at dksX14_go_0 5 rfl rfl)
theorem dX14_go_8 : decode cX14_go 8 = .ok (.if_icmp .ge 44, 3) := dk_162 0 44 (dk_at dksX14_go_0 8 rfl rfl)
theorem dX14_go_11 : decode cX14_go 11 = .ok (.aload_n 0, 1) := dk_42 (dk_at dksX14_go_0 11 rfl rfl)
theorem dX14_go_12 : decode cX14_go 12 = .ok (.getfield 7, 3) := dk_180 0 7 (dk_at dksX14_go_0 12 rfl rfl)
theorem dX14_go_15 : decode cX14_go 15 = .ok (.aload_n 0, 1) := dk_42 (dk_at dksX14_go_0 15 rfl rfl)
theorem dX14_go_16 : decode cX14_go 16 = .ok (.getfield 161, 3) := dk_180 0 161 (dk_at dksX14_go_0 16 rfl rfl)
theorem dX14_go_19 : decode cX14_go 19 = .ok (.iaload, 1) := dk_46 (dk_at dksX14_go_0 19 rfl rfl)
theorem dX14_go_20 : decode cX14_go 20 = .ok (.bipush 32, 2) := dk_16 32 (dk_at dksX14_go_0 20 rfl rfl)
theorem dX14_go_22 : decode cX14_go 22 = .ok (.if_icmp .eq 17, 3) := dk_159 0 17 (dk_at dksX14_go_1 0 rfl rfl)
theorem dX14_go_25 : decode cX14_go 25 = .ok (.aload_n 0, 1) := dk_42 (dk_at dksX14_go_1 3 rfl rfl)
theorem dX14_go_26 : decode cX14_go 26 = .ok (.getfield 7, 3) := dk_180 0 7 (dk_at dksX14_go_1 4 rfl rfl)
theorem dX14_go_29 : decode cX14_go 29 = .ok (.aload_n 0, 1) := dk_42 (dk_at dksX14_go_1 7 rfl rfl)
theorem dX14_go_30 : decode cX14_go 30 = .ok (.getfield 161, 3) := dk_180 0 161 (dk_at dksX14_go_1 8 rfl rfl)
theorem dX14_go_33 : decode cX14_go 33 = .ok (.iaload, 1) := dk_46 (dk_at dksX14_go_1 11 rfl rfl)
theorem dX14_go_34 : decode cX14_go 34 = .ok (.bipush 10, 2) := dk_16 10 (dk_at dksX14_go_1 12 rfl rfl)
theorem dX14_go_36 : decode cX14_go 36 = .ok (.if_icmp .ne 16, 3) := dk_160 0 16 (dk_at dksX14_go_1 14 rfl rfl)
theorem dX14_go_39 : decode cX14_go 39 = .ok (.aload_n 0, 1) := dk_42 (dk_at dksX14_go_1 17 rfl rfl)
theorem dX14_go_40 : decode cX14_go 40 = .ok (.dup, 1) := dk_89 (dk_at dksX14_go_1 18 rfl rfl)
theorem dX14_go_41 : decode cX14_go 41 = .ok (.getfield 161, 3) := dk_180 0 161 (dk_at dksX14_go_1 19 rfl rfl)
theorem dX14_go_44 : decode cX14_go 44 = .ok (.iconst 1, 1) := dk_4 (dk_at dksX14_go_1 22 rfl rfl)
theorem dX14_go_45 : decode cX14_go 45 = .ok (.iadd, 1) := dk_96 (dk_at dksX14_go_1 23 rfl rfl)
theorem dX14_go_46 : decode cX14_go 46 = .ok (.putfield 161, 3) := dk_181 0 161 (dk_at dksX14_go_2 0 rfl rfl)
theorem dX14_go_49 : decode cX14_go 49 = .ok (.goto (-49), 3) := dk_167 255 207 (dk_at dksX14_go_2 3 rfl rfl)
theorem dX14_go_52 : decode cX14_go 52 = .ok (.aload_n 0, 1) := dk_42 (dk_at dksX14_go_2 6 rfl rfl)
theorem dX14_go_53 : decode cX14_go 53 = .ok (.aload_n 0, 1) := dk_42 (dk_at dksX14_go_2 7 rfl rfl)
theorem dX14_go_54 : decode cX14_go 54 = .ok (.getfield 161, 3) := dk_180 0 161 (dk_at dksX14_go_2 8 rfl rfl)
theorem dX14_go_57 : decode cX14_go 57 = .ok (.putfield 164, 3) := dk_181 0 164 (dk_at dksX14_go_2 11 rfl rfl)
theorem dX14_go_60 : decode cX14_go 60 = .ok (.aload_n 0, 1) := dk_42 (dk_at dksX14_go_2 14 rfl rfl)
theorem dX14_go_61 : decode cX14_go 61 = .ok (.getfield 158, 3) := dk_180 0 158 (dk_at dksX14_go_2 15 rfl rfl)
theorem dX14_go_64 : decode cX14_go 64 = .ok (.aload_n 0, 1) := dk_42 (dk_at dksX14_go_2 18 rfl rfl)
theorem dX14_go_65 : decode cX14_go 65 = .ok (.getfield 167, 3) := dk_180 0 167 (dk_at dksX14_go_2 19 rfl rfl)
theorem dX14_go_68 : decode cX14_go 68 = .ok (.if_icmp .le 28, 3) := dk_164 0 28 (dk_at dksX14_go_3 0 rfl rfl)
theorem dX14_go_71 : decode cX14_go 71 = .ok (.aload_n 0, 1) := dk_42 (dk_at dksX14_go_3 3 rfl rfl)
theorem dX14_go_72 : decode cX14_go 72 = .ok (.getfield 164, 3) := dk_180 0 164 (dk_at dksX14_go_3 4 rfl rfl)
theorem dX14_go_75 : decode cX14_go 75 = .ok (.aload_n 0, 1) := dk_42 (dk_at dksX14_go_3 7 rfl rfl)
theorem dX14_go_76 : decode cX14_go 76 = .ok (.getfield 167, 3) := dk_180 0 167 (dk_at dksX14_go_3 8 rfl rfl)
theorem dX14_go_79 : decode cX14_go 79 = .ok (.if_icmp .lt 17, 3) := dk_161 0 17 (dk_at dksX14_go_3 11 rfl rfl)
theorem dX14_go_82 : decode cX14_go 82 = .ok (.aload_n 0, 1) := dk_42 (dk_at dksX14_go_3 14 rfl rfl)
theorem dX14_go_83 : decode cX14_go 83 = .ok (.aload_n 0, 1) := dk_42 (dk_at dksX14_go_3 15 rfl rfl)
theorem dX14_go_84 : decode cX14_go 84 = .ok (.getfield 167, 3) := dk_180 0 167 (dk_at dksX14_go_3 16 rfl rfl)
theorem dX14_go_87 : decode cX14_go 87 = .ok (.putfield 164, 3) := dk_181 0 164 (dk_at dksX14_go_3 19 rfl rfl)
theorem dX14_go_90 : decode cX14_go 90 = .ok (.aload_n 0, 1) := dk_42 (dk_at dksX14_go_3 22 rfl rfl)
theorem dX14_go_91 : decode cX14_go 91 = .ok (.iconst 1, 1) := dk_4 (dk_at dksX14_go_3 23 rfl rfl)
theorem dX14_go_92 : decode cX14_go 92 = .ok (.putfield 170, 3) := dk_181 0 170 (dk_at dksX14_go_4 0 rfl rfl)
theorem dX14_go_95 : decode cX14_go 95 = .ok (.return_, 1) := dk_177 (dk_at dksX14_go_4 3 rfl rfl)
theorem dX14_go_96 : decode cX14_go 96 = .ok (.aload_n 0, 1) := dk_42 (dk_at dksX14_go_4 4 rfl rfl)
theorem dX14_go_97 : decode cX14_go 97 = .ok (.getfield 161, 3) := dk_180 0 161 (dk_at dksX14_go_4 5 rfl rfl)
theorem dX14_go_100 : decode cX14_go 100 = .ok (.aload_n 0, 1) := dk_42 (dk_at dksX14_go_4 8 rfl rfl)
theorem dX14_go_101 : decode cX14_go 101 = .ok (.getfield 158, 3) := dk_180 0 158 (dk_at dksX14_go_4 9 rfl rfl)
theorem dX14_go_104 : decode cX14_go 104 = .ok (.if_icmp .lt 9, 3) := dk_161 0 9 (dk_at dksX14_go_4 12 rfl rfl)
theorem dX14_go_107 : decode cX14_go 107 = .ok (.aload_n 0, 1) := dk_42 (dk_at dksX14_go_4 15 rfl rfl)
theorem dX14_go_108 : decode cX14_go 108 = .ok (.iconst 0, 1) := dk_3 (dk_at dksX14_go_4 16 rfl rfl)
theorem dX14_go_109 : decode cX14_go 109 = .ok (.putfield 170, 3) := dk_181 0 170 (dk_at dksX14_go_4 17 rfl rfl)
theorem dX14_go_112 : decode cX14_go 112 = .ok (.return_, 1) := dk_177 (dk_at dksX14_go_4 20 rfl rfl)
theorem dX14_go_113 : decode cX14_go 113 = .ok (.aload_n 0, 1) := dk_42 (dk_at dksX14_go_4 21 rfl rfl)
theorem dX14_go_114 : decode cX14_go 114 = .ok (.getfield 7, 3) := dk_180 0 7 (dk_at dksX14_go_5 0 rfl rfl)
theorem dX14_go_117 : decode cX14_go 117 = .ok (.aload_n 0, 1) := dk_42 (dk_at dksX14_go_5 3 rfl rfl)
theorem dX14_go_118 : decode cX14_go 118 = .ok (.getfield 161, 3) := dk_180 0 161 (dk_at dksX14_go_5 4 rfl rfl)
theorem dX14_go_121 : decode cX14_go 121 = .ok (.iaload, 1) := dk_46 (dk_at dksX14_go_5 7 rfl rfl)
theorem dX14_go_122 : decode cX14_go 122 = .ok (.istore_n 1, 1) := dk_60 (dk_at dksX14_go_5 8 rfl rfl)
theorem dX14_go_123 : decode cX14_go 123 = .ok (.iload_n 1, 1) := dk_27 (dk_at dksX14_go_5 9 rfl rfl)
theorem dX14_go_124 : decode cX14_go 124 = .ok (.invokestatic 173, 3) := dk_184 0 173 (dk_at dksX14_go_5 10 rfl rfl)
theorem dX14_go_127 : decode cX14_go 127 = .ok (.ifCond .ne 71, 3) := dk_154 0 71 (dk_at dksX14_go_5 13 rfl rfl)
theorem dX14_go_130 : decode cX14_go 130 = .ok (.iload_n 1, 1) := dk_27 (dk_at dksX14_go_5 16 rfl rfl)
theorem dX14_go_131 : decode cX14_go 131 = .ok (.invokestatic 177, 3) := dk_184 0 177 (dk_at dksX14_go_5 17 rfl rfl)
theorem dX14_go_134 : decode cX14_go 134 = .ok (.ifCond .ne 64, 3) := dk_154 0 64 (dk_at dksX14_go_5 20 rfl rfl)
theorem dX14_go_137 : decode cX14_go 137 = .ok (.aload_n 0, 1) := dk_42 (dk_at dksX14_go_5 23 rfl rfl)
theorem dX14_go_138 : decode cX14_go 138 = .ok (.iload_n 1, 1) := dk_27 (dk_at dksX14_go_6 0 rfl rfl)
theorem dX14_go_139 : decode cX14_go 139 = .ok (.bipush 59, 2) := dk_16 59 (dk_at dksX14_go_6 1 rfl rfl)
theorem dX14_go_141 : decode cX14_go 141 = .ok (.if_icmp .eq 33, 3) := dk_159 0 33 (dk_at dksX14_go_6 3 rfl rfl)
theorem dX14_go_144 : decode cX14_go 144 = .ok (.iload_n 1, 1) := dk_27 (dk_at dksX14_go_6 6 rfl rfl)
theorem dX14_go_145 : decode cX14_go 145 = .ok (.bipush 60, 2) := dk_16 60 (dk_at dksX14_go_6 7 rfl rfl)
theorem dX14_go_147 : decode cX14_go 147 = .ok (.if_icmp .eq 27, 3) := dk_159 0 27 (dk_at dksX14_go_6 9 rfl rfl)
theorem dX14_go_150 : decode cX14_go 150 = .ok (.iload_n 1, 1) := dk_27 (dk_at dksX14_go_6 12 rfl rfl)
theorem dX14_go_151 : decode cX14_go 151 = .ok (.bipush 61, 2) := dk_16 61 (dk_at dksX14_go_6 13 rfl rfl)
theorem dX14_go_153 : decode cX14_go 153 = .ok (.if_icmp .eq 21, 3) := dk_159 0 21 (dk_at dksX14_go_6 15 rfl rfl)
theorem dX14_go_156 : decode cX14_go 156 = .ok (.iload_n 1, 1) := dk_27 (dk_at dksX14_go_6 18 rfl rfl)
theorem dX14_go_157 : decode cX14_go 157 = .ok (.bipush 62, 2) := dk_16 62 (dk_at dksX14_go_6 19 rfl rfl)
theorem dX14_go_159 : decode cX14_go 159 = .ok (.if_icmp .eq 15, 3) := dk_159 0 15 (dk_at dksX14_go_6 21 rfl rfl)
theorem dX14_go_162 : decode cX14_go 162 = .ok (.iload_n 1, 1) := dk_27 (dk_at dksX14_go_7 0 rfl rfl)
theorem dX14_go_163 : decode cX14_go 163 = .ok (.bipush 40, 2) := dk_16 40 (dk_at dksX14_go_7 1 rfl rfl)
theorem dX14_go_165 : decode cX14_go 165 = .ok (.if_icmp .eq 9, 3) := dk_159 0 9 (dk_at dksX14_go_7 3 rfl rfl)
theorem dX14_go_168 : decode cX14_go 168 = .ok (.iload_n 1, 1) := dk_27 (dk_at dksX14_go_7 6 rfl rfl)
theorem dX14_go_169 : decode cX14_go 169 = .ok (.bipush 41, 2) := dk_16 41 (dk_at dksX14_go_7 7 rfl rfl)
theorem dX14_go_171 : decode cX14_go 171 = .ok (.if_icmp .ne 7, 3) := dk_160 0 7 (dk_at dksX14_go_7 9 rfl rfl)
theorem dX14_go_174 : decode cX14_go 174 = .ok (.iconst 4, 1) := dk_7 (dk_at dksX14_go_7 12 rfl rfl)
theorem dX14_go_175 : decode cX14_go 175 = .ok (.goto 4, 3) := dk_167 0 4 (dk_at dksX14_go_7 13 rfl rfl)
theorem dX14_go_178 : decode cX14_go 178 = .ok (.iconst 1, 1) := dk_4 (dk_at dksX14_go_7 16 rfl rfl)
theorem dX14_go_179 : decode cX14_go 179 = .ok (.putfield 170, 3) := dk_181 0 170 (dk_at dksX14_go_7 17 rfl rfl)
theorem dX14_go_182 : decode cX14_go 182 = .ok (.aload_n 0, 1) := dk_42 (dk_at dksX14_go_7 20 rfl rfl)
theorem dX14_go_183 : decode cX14_go 183 = .ok (.iload_n 1, 1) := dk_27 (dk_at dksX14_go_7 21 rfl rfl)
theorem dX14_go_184 : decode cX14_go 184 = .ok (.putfield 180, 3) := dk_181 0 180 (dk_at dksX14_go_8 0 rfl rfl)
theorem dX14_go_187 : decode cX14_go 187 = .ok (.aload_n 0, 1) := dk_42 (dk_at dksX14_go_8 3 rfl rfl)
theorem dX14_go_188 : decode cX14_go 188 = .ok (.dup, 1) := dk_89 (dk_at dksX14_go_8 4 rfl rfl)
theorem dX14_go_189 : decode cX14_go 189 = .ok (.getfield 161, 3) := dk_180 0 161 (dk_at dksX14_go_8 5 rfl rfl)
theorem dX14_go_192 : decode cX14_go 192 = .ok (.iconst 1, 1) := dk_4 (dk_at dksX14_go_8 8 rfl rfl)
theorem dX14_go_193 : decode cX14_go 193 = .ok (.iadd, 1) := dk_96 (dk_at dksX14_go_8 9 rfl rfl)
theorem dX14_go_194 : decode cX14_go 194 = .ok (.putfield 161, 3) := dk_181 0 161 (dk_at dksX14_go_8 10 rfl rfl)
theorem dX14_go_197 : decode cX14_go 197 = .ok (.return_, 1) := dk_177 (dk_at dksX14_go_8 13 rfl rfl)
theorem dX14_go_198 : decode cX14_go 198 = .ok (.iload_n 1, 1) := dk_27 (dk_at dksX14_go_8 14 rfl rfl)
theorem dX14_go_199 : decode cX14_go 199 = .ok (.invokestatic 173, 3) := dk_184 0 173 (dk_at dksX14_go_8 15 rfl rfl)
theorem dX14_go_202 : decode cX14_go 202 = .ok (.istore_n 2, 1) := dk_61 (dk_at dksX14_go_8 18 rfl rfl)
theorem dX14_go_203 : decode cX14_go 203 = .ok (.iconst 1, 1) := dk_4 (dk_at dksX14_go_8 19 rfl rfl)
theorem dX14_go_204 : decode cX14_go 204 = .ok (.istore_n 3, 1) := dk_62 (dk_at dksX14_go_8 20 rfl rfl)
theorem dX14_go_205 : decode cX14_go 205 = .ok (.aload_n 0, 1) := dk_42 (dk_at dksX14_go_8 21 rfl rfl)
theorem dX14_go_206 : decode cX14_go 206 = .ok (.lconst 0, 1) := dk_9 (dk_at dksX14_go_8 22 rfl rfl)
theorem dX14_go_207 : decode cX14_go 207 = .ok (.putfield 183, 3) := dk_181 0 183 (dk_at dksX14_go_9 0 rfl rfl)
theorem dX14_go_210 : decode cX14_go 210 = .ok (.aload_n 0, 1) := dk_42 (dk_at dksX14_go_9 3 rfl rfl)
theorem dX14_go_211 : decode cX14_go 211 = .ok (.iconst 0, 1) := dk_3 (dk_at dksX14_go_9 4 rfl rfl)
theorem dX14_go_212 : decode cX14_go 212 = .ok (.putfield 187, 3) := dk_181 0 187 (dk_at dksX14_go_9 5 rfl rfl)
theorem dX14_go_215 : decode cX14_go 215 = .ok (.aload_n 0, 1) := dk_42 (dk_at dksX14_go_9 8 rfl rfl)
theorem dX14_go_216 : decode cX14_go 216 = .ok (.aload_n 0, 1) := dk_42 (dk_at dksX14_go_9 9 rfl rfl)
theorem dX14_go_217 : decode cX14_go 217 = .ok (.getfield 161, 3) := dk_180 0 161 (dk_at dksX14_go_9 10 rfl rfl)
theorem dX14_go_220 : decode cX14_go 220 = .ok (.invokevirtual 190, 3) := dk_182 0 190 (dk_at dksX14_go_9 13 rfl rfl)
theorem dX14_go_223 : decode cX14_go 223 = .ok (.invokestatic 173, 3) := dk_184 0 173 (dk_at dksX14_go_9 16 rfl rfl)
theorem dX14_go_226 : decode cX14_go 226 = .ok (.ifCond .ne 17, 3) := dk_154 0 17 (dk_at dksX14_go_9 19 rfl rfl)
theorem dX14_go_229 : decode cX14_go 229 = .ok (.aload_n 0, 1) := dk_42 (dk_at dksX14_go_9 22 rfl rfl)
theorem dX14_go_230 : decode cX14_go 230 = .ok (.aload_n 0, 1) := dk_42 (dk_at dksX14_go_9 23 rfl rfl)
theorem dX14_go_231 : decode cX14_go 231 = .ok (.getfield 161, 3) := dk_180 0 161 (dk_at dksX14_go_10 0 rfl rfl)
theorem dX14_go_234 : decode cX14_go 234 = .ok (.invokevirtual 190, 3) := dk_182 0 190 (dk_at dksX14_go_10 3 rfl rfl)
theorem dX14_go_237 : decode cX14_go 237 = .ok (.invokestatic 177, 3) := dk_184 0 177 (dk_at dksX14_go_10 6 rfl rfl)
theorem dX14_go_240 : decode cX14_go 240 = .ok (.ifCond .eq 111, 3) := dk_153 0 111 (dk_at dksX14_go_10 9 rfl rfl)
theorem dX14_go_243 : decode cX14_go 243 = .ok (.aload_n 0, 1) := dk_42 (dk_at dksX14_go_10 12 rfl rfl)
theorem dX14_go_244 : decode cX14_go 244 = .ok (.getfield 7, 3) := dk_180 0 7 (dk_at dksX14_go_10 13 rfl rfl)
theorem dX14_go_247 : decode cX14_go 247 = .ok (.aload_n 0, 1) := dk_42 (dk_at dksX14_go_10 16 rfl rfl)
theorem dX14_go_248 : decode cX14_go 248 = .ok (.getfield 161, 3) := dk_180 0 161 (dk_at dksX14_go_10 17 rfl rfl)
theorem dX14_go_251 : decode cX14_go 251 = .ok (.iaload, 1) := dk_46 (dk_at dksX14_go_10 20 rfl rfl)
theorem dX14_go_252 : decode cX14_go 252 = .ok (.istore 4, 2) := dk_54 4 (dk_at dksX14_go_10 21 rfl rfl)
theorem dX14_go_254 : decode cX14_go 254 = .ok (.iload_n 3, 1) := dk_29 (dk_at dksX14_go_10 23 rfl rfl)
theorem dX14_go_255 : decode cX14_go 255 = .ok (.ifCond .eq 16, 3) := dk_153 0 16 (dk_at dksX14_go_11 0 rfl rfl)
theorem dX14_go_258 : decode cX14_go 258 = .ok (.iload 4, 2) := dk_21 4 (dk_at dksX14_go_11 3 rfl rfl)
theorem dX14_go_260 : decode cX14_go 260 = .ok (.invokestatic 173, 3) := dk_184 0 173 (dk_at dksX14_go_11 5 rfl rfl)
theorem dX14_go_263 : decode cX14_go 263 = .ok (.iload_n 2, 1) := dk_28 (dk_at dksX14_go_11 8 rfl rfl)
theorem dX14_go_264 : decode cX14_go 264 = .ok (.if_icmp .ne 7, 3) := dk_160 0 7 (dk_at dksX14_go_11 9 rfl rfl)
theorem dX14_go_267 : decode cX14_go 267 = .ok (.iconst 1, 1) := dk_4 (dk_at dksX14_go_11 12 rfl rfl)
theorem dX14_go_268 : decode cX14_go 268 = .ok (.goto 4, 3) := dk_167 0 4 (dk_at dksX14_go_11 13 rfl rfl)
theorem dX14_go_271 : decode cX14_go 271 = .ok (.iconst 0, 1) := dk_3 (dk_at dksX14_go_11 16 rfl rfl)
theorem dX14_go_272 : decode cX14_go 272 = .ok (.istore_n 3, 1) := dk_62 (dk_at dksX14_go_11 17 rfl rfl)
theorem dX14_go_273 : decode cX14_go 273 = .ok (.aload_n 0, 1) := dk_42 (dk_at dksX14_go_11 18 rfl rfl)
theorem dX14_go_274 : decode cX14_go 274 = .ok (.getfield 161, 3) := dk_180 0 161 (dk_at dksX14_go_11 19 rfl rfl)
theorem dX14_go_277 : decode cX14_go 277 = .ok (.aload_n 0, 1) := dk_42 (dk_at dksX14_go_11 22 rfl rfl)
theorem dX14_go_278 : decode cX14_go 278 = .ok (.getfield 164, 3) := dk_180 0 164 (dk_at dksX14_go_12 0 rfl rfl)
theorem dX14_go_281 : decode cX14_go 281 = .ok (.isub, 1) := dk_100 (dk_at dksX14_go_12 3 rfl rfl)
theorem dX14_go_282 : decode cX14_go 282 = .ok (.bipush 6, 2) := dk_16 6 (dk_at dksX14_go_12 4 rfl rfl)
theorem dX14_go_284 : decode cX14_go 284 = .ok (.if_icmp .ge 23, 3) := dk_162 0 23 (dk_at dksX14_go_12 6 rfl rfl)
theorem dX14_go_287 : decode cX14_go 287 = .ok (.aload_n 0, 1) := dk_42 (dk_at dksX14_go_12 9 rfl rfl)
theorem dX14_go_288 : decode cX14_go 288 = .ok (.ldc2_w 194, 3) := dk_20 0 194 (dk_at dksX14_go_12 10 rfl rfl)
theorem dX14_go_291 : decode cX14_go 291 = .ok (.aload_n 0, 1) := dk_42 (dk_at dksX14_go_12 13 rfl rfl)
theorem dX14_go_292 : decode cX14_go 292 = .ok (.getfield 183, 3) := dk_180 0 183 (dk_at dksX14_go_12 14 rfl rfl)
theorem dX14_go_295 : decode cX14_go 295 = .ok (.lmul, 1) := dk_105 (dk_at dksX14_go_12 17 rfl rfl)
theorem dX14_go_296 : decode cX14_go 296 = .ok (.iload 4, 2) := dk_21 4 (dk_at dksX14_go_12 18 rfl rfl)
theorem dX14_go_298 : decode cX14_go 298 = .ok (.i2l, 1) := dk_133 (dk_at dksX14_go_12 20 rfl rfl)
theorem dX14_go_299 : decode cX14_go 299 = .ok (.ladd, 1) := dk_97 (dk_at dksX14_go_12 21 rfl rfl)
theorem dX14_go_300 : decode cX14_go 300 = .ok (.ldc2_w 196, 3) := dk_20 0 196 (dk_at dksX14_go_13 0 rfl rfl)
theorem dX14_go_303 : decode cX14_go 303 = .ok (.lsub, 1) := dk_101 (dk_at dksX14_go_13 3 rfl rfl)
theorem dX14_go_304 : decode cX14_go 304 = .ok (.putfield 183, 3) := dk_181 0 183 (dk_at dksX14_go_13 4 rfl rfl)
theorem dX14_go_307 : decode cX14_go 307 = .ok (.aload_n 0, 1) := dk_42 (dk_at dksX14_go_13 7 rfl rfl)
theorem dX14_go_308 : decode cX14_go 308 = .ok (.getfield 161, 3) := dk_180 0 161 (dk_at dksX14_go_13 8 rfl rfl)
theorem dX14_go_311 : decode cX14_go 311 = .ok (.aload_n 0, 1) := dk_42 (dk_at dksX14_go_13 11 rfl rfl)
theorem dX14_go_312 : decode cX14_go 312 = .ok (.getfield 164, 3) := dk_180 0 164 (dk_at dksX14_go_13 12 rfl rfl)
theorem dX14_go_315 : decode cX14_go 315 = .ok (.isub, 1) := dk_100 (dk_at dksX14_go_13 15 rfl rfl)
theorem dX14_go_316 : decode cX14_go 316 = .ok (.bipush 8, 2) := dk_16 8 (dk_at dksX14_go_13 16 rfl rfl)
theorem dX14_go_318 : decode cX14_go 318 = .ok (.if_icmp .ge 20, 3) := dk_162 0 20 (dk_at dksX14_go_13 18 rfl rfl)
theorem dX14_go_321 : decode cX14_go 321 = .ok (.aload_n 0, 1) := dk_42 (dk_at dksX14_go_13 21 rfl rfl)
theorem dX14_go_322 : decode cX14_go 322 = .ok (.bipush 10, 2) := dk_16 10 (dk_at dksX14_go_13 22 rfl rfl)
theorem dX14_go_324 : decode cX14_go 324 = .ok (.aload_n 0, 1) := dk_42 (dk_at dksX14_go_14 0 rfl rfl)
theorem dX14_go_325 : decode cX14_go 325 = .ok (.getfield 187, 3) := dk_180 0 187 (dk_at dksX14_go_14 1 rfl rfl)
theorem dX14_go_328 : decode cX14_go 328 = .ok (.imul, 1) := dk_104 (dk_at dksX14_go_14 4 rfl rfl)
theorem dX14_go_329 : decode cX14_go 329 = .ok (.iload 4, 2) := dk_21 4 (dk_at dksX14_go_14 5 rfl rfl)
theorem dX14_go_331 : decode cX14_go 331 = .ok (.iadd, 1) := dk_96 (dk_at dksX14_go_14 7 rfl rfl)
theorem dX14_go_332 : decode cX14_go 332 = .ok (.bipush 48, 2) := dk_16 48 (dk_at dksX14_go_14 8 rfl rfl)
theorem dX14_go_334 : decode cX14_go 334 = .ok (.isub, 1) := dk_100 (dk_at dksX14_go_14 10 rfl rfl)
theorem dX14_go_335 : decode cX14_go 335 = .ok (.putfield 187, 3) := dk_181 0 187 (dk_at dksX14_go_14 11 rfl rfl)
theorem dX14_go_338 : decode cX14_go 338 = .ok (.aload_n 0, 1) := dk_42 (dk_at dksX14_go_14 14 rfl rfl)
theorem dX14_go_339 : decode cX14_go 339 = .ok (.dup, 1) := dk_89 (dk_at dksX14_go_14 15 rfl rfl)
theorem dX14_go_340 : decode cX14_go 340 = .ok (.getfield 161, 3) := dk_180 0 161 (dk_at dksX14_go_14 16 rfl rfl)
theorem dX14_go_343 : decode cX14_go 343 = .ok (.iconst 1, 1) := dk_4 (dk_at dksX14_go_14 19 rfl rfl)
theorem dX14_go_344 : decode cX14_go 344 = .ok (.iadd, 1) := dk_96 (dk_at dksX14_go_14 20 rfl rfl)
theorem dX14_go_345 : decode cX14_go 345 = .ok (.putfield 161, 3) := dk_181 0 161 (dk_at dksX14_go_14 21 rfl rfl)
theorem dX14_go_348 : decode cX14_go 348 = .ok (.goto (-133), 3) := dk_167 255 123 (dk_at dksX14_go_15 0 rfl rfl)
theorem dX14_go_351 : decode cX14_go 351 = .ok (.aload_n 0, 1) := dk_42 (dk_at dksX14_go_15 3 rfl rfl)
theorem dX14_go_352 : decode cX14_go 352 = .ok (.iload_n 3, 1) := dk_29 (dk_at dksX14_go_15 4 rfl rfl)
theorem dX14_go_353 : decode cX14_go 353 = .ok (.ifCond .eq 26, 3) := dk_153 0 26 (dk_at dksX14_go_15 5 rfl rfl)
theorem dX14_go_356 : decode cX14_go 356 = .ok (.aload_n 0, 1) := dk_42 (dk_at dksX14_go_15 8 rfl rfl)
theorem dX14_go_357 : decode cX14_go 357 = .ok (.getfield 161, 3) := dk_180 0 161 (dk_at dksX14_go_15 9 rfl rfl)
theorem dX14_go_360 : decode cX14_go 360 = .ok (.aload_n 0, 1) := dk_42 (dk_at dksX14_go_15 12 rfl rfl)
theorem dX14_go_361 : decode cX14_go 361 = .ok (.getfield 164, 3) := dk_180 0 164 (dk_at dksX14_go_15 13 rfl rfl)
theorem dX14_go_364 : decode cX14_go 364 = .ok (.isub, 1) := dk_100 (dk_at dksX14_go_15 16 rfl rfl)
theorem dX14_go_365 : decode cX14_go 365 = .ok (.iload_n 2, 1) := dk_28 (dk_at dksX14_go_15 17 rfl rfl)
theorem dX14_go_366 : decode cX14_go 366 = .ok (.ifCond .eq 8, 3) := dk_153 0 8 (dk_at dksX14_go_15 18 rfl rfl)
theorem dX14_go_369 : decode cX14_go 369 = .ok (.bipush 6, 2) := dk_16 6 (dk_at dksX14_go_15 21 rfl rfl)
theorem dX14_go_371 : decode cX14_go 371 = .ok (.goto 5, 3) := dk_167 0 5 (dk_at dksX14_go_16 0 rfl rfl)
theorem dX14_go_374 : decode cX14_go 374 = .ok (.bipush 8, 2) := dk_16 8 (dk_at dksX14_go_16 3 rfl rfl)
theorem dX14_go_376 : decode cX14_go 376 = .ok (.if_icmp .le 7, 3) := dk_164 0 7 (dk_at dksX14_go_16 5 rfl rfl)
theorem dX14_go_379 : decode cX14_go 379 = .ok (.iconst 1, 1) := dk_4 (dk_at dksX14_go_16 8 rfl rfl)
theorem dX14_go_380 : decode cX14_go 380 = .ok (.goto 12, 3) := dk_167 0 12 (dk_at dksX14_go_16 9 rfl rfl)
theorem dX14_go_383 : decode cX14_go 383 = .ok (.iload_n 2, 1) := dk_28 (dk_at dksX14_go_16 12 rfl rfl)
theorem dX14_go_384 : decode cX14_go 384 = .ok (.ifCond .eq 7, 3) := dk_153 0 7 (dk_at dksX14_go_16 13 rfl rfl)
theorem dX14_go_387 : decode cX14_go 387 = .ok (.iconst 2, 1) := dk_5 (dk_at dksX14_go_16 16 rfl rfl)
theorem dX14_go_388 : decode cX14_go 388 = .ok (.goto 4, 3) := dk_167 0 4 (dk_at dksX14_go_16 17 rfl rfl)
theorem dX14_go_391 : decode cX14_go 391 = .ok (.iconst 3, 1) := dk_6 (dk_at dksX14_go_16 20 rfl rfl)
theorem dX14_go_392 : decode cX14_go 392 = .ok (.putfield 170, 3) := dk_181 0 170 (dk_at dksX14_go_16 21 rfl rfl)
theorem dX14_go_395 : decode cX14_go 395 = .ok (.return_, 1) := dk_177 (dk_at dksX14_go_17 0 rfl rfl)
abbrev cX14_isLetter : ByteArray := prog_23_method_13_code
def yX14_isLetter : MethodName := ⟨RX14, "isLetter", "(I)Z"⟩
def dkwX14_isLetter_0 : List UInt8 := [26, 16, 97, 161, 0, 13, 26, 16, 122, 163, 0, 7, 4, 167, 0, 4, 3, 172]
abbrev dktX14_isLetter_0 : List UInt8 := dkwX14_isLetter_0 ++ []
theorem dksX14_isLetter_0 : cX14_isLetter.data.toList.drop 0 = dktX14_isLetter_0 := by decide +kernel
theorem dX14_isLetter_0 : decode cX14_isLetter 0 = .ok (.iload_n 0, 1) := dk_26 (dk_at dksX14_isLetter_0 0 rfl rfl)
theorem dX14_isLetter_1 : decode cX14_isLetter 1 = .ok (.bipush 97, 2) := dk_16 97 (dk_at dksX14_isLetter_0 1 rfl rfl)
theorem dX14_isLetter_3 : decode cX14_isLetter 3 = .ok (.if_icmp .lt 13, 3) := dk_161 0 13 (dk_at dksX14_isLetter_0 3 rfl rfl)
theorem dX14_isLetter_6 : decode cX14_isLetter 6 = .ok (.iload_n 0, 1) := dk_26 (dk_at dksX14_isLetter_0 6 rfl rfl)
theorem dX14_isLetter_7 : decode cX14_isLetter 7 = .ok (.bipush 122, 2) := dk_16 122 (dk_at dksX14_isLetter_0 7 rfl rfl)
theorem dX14_isLetter_9 : decode cX14_isLetter 9 = .ok (.if_icmp .gt 7, 3) := dk_163 0 7 (dk_at dksX14_isLetter_0 9 rfl rfl)
theorem dX14_isLetter_12 : decode cX14_isLetter 12 = .ok (.iconst 1, 1) := dk_4 (dk_at dksX14_isLetter_0 12 rfl rfl)
theorem dX14_isLetter_13 : decode cX14_isLetter 13 = .ok (.goto 4, 3) := dk_167 0 4 (dk_at dksX14_isLetter_0 13 rfl rfl)
theorem dX14_isLetter_16 : decode cX14_isLetter 16 = .ok (.iconst 0, 1) := dk_3 (dk_at dksX14_isLetter_0 16 rfl rfl)
theorem dX14_isLetter_17 : decode cX14_isLetter 17 = .ok (.ireturn, 1) := dk_172 (dk_at dksX14_isLetter_0 17 rfl rfl)
abbrev cX14_isDigit : ByteArray := prog_23_method_12_code
def yX14_isDigit : MethodName := ⟨RX14, "isDigit", "(I)Z"⟩
def dkwX14_isDigit_0 : List UInt8 := [26, 16, 48, 161, 0, 13, 26, 16, 57, 163, 0, 7, 4, 167, 0, 4, 3, 172]
abbrev dktX14_isDigit_0 : List UInt8 := dkwX14_isDigit_0 ++ []
theorem dksX14_isDigit_0 : cX14_isDigit.data.toList.drop 0 = dktX14_isDigit_0 := by decide +kernel
theorem dX14_isDigit_0 : decode cX14_isDigit 0 = .ok (.iload_n 0, 1) := dk_26 (dk_at dksX14_isDigit_0 0 rfl rfl)
theorem dX14_isDigit_1 : decode cX14_isDigit 1 = .ok (.bipush 48, 2) := dk_16 48 (dk_at dksX14_isDigit_0 1 rfl rfl)
theorem dX14_isDigit_3 : decode cX14_isDigit 3 = .ok (.if_icmp .lt 13, 3) := dk_161 0 13 (dk_at dksX14_isDigit_0 3 rfl rfl)
theorem dX14_isDigit_6 : decode cX14_isDigit 6 = .ok (.iload_n 0, 1) := dk_26 (dk_at dksX14_isDigit_0 6 rfl rfl)
theorem dX14_isDigit_7 : decode cX14_isDigit 7 = .ok (.bipush 57, 2) := dk_16 57 (dk_at dksX14_isDigit_0 7 rfl rfl)
theorem dX14_isDigit_9 : decode cX14_isDigit 9 = .ok (.if_icmp .gt 7, 3) := dk_163 0 7 (dk_at dksX14_isDigit_0 9 rfl rfl)
theorem dX14_isDigit_12 : decode cX14_isDigit 12 = .ok (.iconst 1, 1) := dk_4 (dk_at dksX14_isDigit_0 12 rfl rfl)
theorem dX14_isDigit_13 : decode cX14_isDigit 13 = .ok (.goto 4, 3) := dk_167 0 4 (dk_at dksX14_isDigit_0 13 rfl rfl)
theorem dX14_isDigit_16 : decode cX14_isDigit 16 = .ok (.iconst 0, 1) := dk_3 (dk_at dksX14_isDigit_0 16 rfl rfl)
theorem dX14_isDigit_17 : decode cX14_isDigit 17 = .ok (.ireturn, 1) := dk_172 (dk_at dksX14_isDigit_0 17 rfl rfl)
abbrev cX14_byteAt : ByteArray := prog_23_method_11_code
def yX14_byteAt : MethodName := ⟨RX14, "byteAt", "(I)I"⟩
def dkwX14_byteAt_0 : List UInt8 := [27, 42, 180, 0, 158, 162, 0, 12, 42, 180, 0, 7, 27, 46, 167, 0, 4, 3, 172]
abbrev dktX14_byteAt_0 : List UInt8 := dkwX14_byteAt_0 ++ []
theorem dksX14_byteAt_0 : cX14_byteAt.data.toList.drop 0 = dktX14_byteAt_0 := by decide +kernel
theorem dX14_byteAt_0 : decode cX14_byteAt 0 = .ok (.iload_n 1, 1) := dk_27 (dk_at dksX14_byteAt_0 0 rfl rfl)
theorem dX14_byteAt_1 : decode cX14_byteAt 1 = .ok (.aload_n 0, 1) := dk_42 (dk_at dksX14_byteAt_0 1 rfl rfl)
theorem dX14_byteAt_2 : decode cX14_byteAt 2 = .ok (.getfield 158, 3) := dk_180 0 158 (dk_at dksX14_byteAt_0 2 rfl rfl)
theorem dX14_byteAt_5 : decode cX14_byteAt 5 = .ok (.if_icmp .ge 12, 3) := dk_162 0 12 (dk_at dksX14_byteAt_0 5 rfl rfl)
theorem dX14_byteAt_8 : decode cX14_byteAt 8 = .ok (.aload_n 0, 1) := dk_42 (dk_at dksX14_byteAt_0 8 rfl rfl)
theorem dX14_byteAt_9 : decode cX14_byteAt 9 = .ok (.getfield 7, 3) := dk_180 0 7 (dk_at dksX14_byteAt_0 9 rfl rfl)
theorem dX14_byteAt_12 : decode cX14_byteAt 12 = .ok (.iload_n 1, 1) := dk_27 (dk_at dksX14_byteAt_0 12 rfl rfl)
theorem dX14_byteAt_13 : decode cX14_byteAt 13 = .ok (.iaload, 1) := dk_46 (dk_at dksX14_byteAt_0 13 rfl rfl)
theorem dX14_byteAt_14 : decode cX14_byteAt 14 = .ok (.goto 4, 3) := dk_167 0 4 (dk_at dksX14_byteAt_0 14 rfl rfl)
theorem dX14_byteAt_17 : decode cX14_byteAt 17 = .ok (.iconst 0, 1) := dk_3 (dk_at dksX14_byteAt_0 17 rfl rfl)
theorem dX14_byteAt_18 : decode cX14_byteAt 18 = .ok (.ireturn, 1) := dk_172 (dk_at dksX14_byteAt_0 18 rfl rfl)
abbrev cX14_readLine : ByteArray := prog_23_method_36_code
def yX14_readLine : MethodName := ⟨RX14, "readLine", "()Z"⟩
def dkwX14_readLine_3 : List UInt8 := [182, 1, 20, 61, 28, 153, 0, 14, 42, 182, 1, 23, 153, 0, 7, 4, 167, 0, 4, 3, 172]
abbrev dktX14_readLine_3 : List UInt8 := dkwX14_readLine_3 ++ []
def dkwX14_readLine_2 : List UInt8 := [160, 0, 10, 42, 182, 1, 14, 167, 0, 20, 27, 5, 160, 0, 10, 42, 182, 1, 17, 167, 0, 8, 42, 27]
abbrev dktX14_readLine_2 : List UInt8 := dkwX14_readLine_2 ++ dktX14_readLine_3
def dkwX14_readLine_1 : List UInt8 := [16, 9, 164, 0, 9, 42, 4, 182, 0, 216, 172, 27, 154, 0, 10, 42, 182, 1, 11, 167, 0, 32, 27, 4]
abbrev dktX14_readLine_1 : List UInt8 := dkwX14_readLine_1 ++ dktX14_readLine_2
def dkwX14_readLine_0 : List UInt8 := [3, 60, 27, 16, 9, 163, 0, 17, 42, 27, 182, 1, 8, 154, 0, 9, 132, 1, 1, 167, 255, 239, 27]
abbrev dktX14_readLine_0 : List UInt8 := dkwX14_readLine_0 ++ dktX14_readLine_1
theorem dksX14_readLine_0 : cX14_readLine.data.toList.drop 0 = dktX14_readLine_0 := by decide +kernel
theorem dksX14_readLine_1 : cX14_readLine.data.toList.drop 23 = dktX14_readLine_1 := dk_seg dksX14_readLine_0 23 rfl rfl
theorem dksX14_readLine_2 : cX14_readLine.data.toList.drop 47 = dktX14_readLine_2 := dk_seg dksX14_readLine_1 24 rfl rfl
theorem dksX14_readLine_3 : cX14_readLine.data.toList.drop 71 = dktX14_readLine_3 := dk_seg dksX14_readLine_2 24 rfl rfl
theorem dX14_readLine_0 : decode cX14_readLine 0 = .ok (.iconst 0, 1) := dk_3 (dk_at dksX14_readLine_0 0 rfl rfl)
theorem dX14_readLine_1 : decode cX14_readLine 1 = .ok (.istore_n 1, 1) := dk_60 (dk_at dksX14_readLine_0 1 rfl rfl)
theorem dX14_readLine_2 : decode cX14_readLine 2 = .ok (.iload_n 1, 1) := dk_27 (dk_at dksX14_readLine_0 2 rfl rfl)
theorem dX14_readLine_3 : decode cX14_readLine 3 = .ok (.bipush 9, 2) := dk_16 9 (dk_at dksX14_readLine_0 3 rfl rfl)
theorem dX14_readLine_5 : decode cX14_readLine 5 = .ok (.if_icmp .gt 17, 3) := dk_163 0 17 (dk_at dksX14_readLine_0 5 rfl rfl)
theorem dX14_readLine_8 : decode cX14_readLine 8 = .ok (.aload_n 0, 1) := dk_42 (dk_at dksX14_readLine_0 8 rfl rfl)
theorem dX14_readLine_9 : decode cX14_readLine 9 = .ok (.iload_n 1, 1) := dk_27 (dk_at dksX14_readLine_0 9 rfl rfl)
theorem dX14_readLine_10 : decode cX14_readLine 10 = .ok (.invokevirtual 264, 3) := dk_182 1 8 (dk_at dksX14_readLine_0 10 rfl rfl)
theorem dX14_readLine_13 : decode cX14_readLine 13 = .ok (.ifCond .ne 9, 3) := dk_154 0 9 (dk_at dksX14_readLine_0 13 rfl rfl)
theorem dX14_readLine_16 : decode cX14_readLine 16 = .ok (.iinc 1 1, 3) := dk_132 1 1 (dk_at dksX14_readLine_0 16 rfl rfl)
theorem dX14_readLine_19 : decode cX14_readLine 19 = .ok (.goto (-17), 3) := dk_167 255 239 (dk_at dksX14_readLine_0 19 rfl rfl)
theorem dX14_readLine_22 : decode cX14_readLine 22 = .ok (.iload_n 1, 1) := dk_27 (dk_at dksX14_readLine_0 22 rfl rfl)
theorem dX14_readLine_23 : decode cX14_readLine 23 = .ok (.bipush 9, 2) := dk_16 9 (dk_at dksX14_readLine_1 0 rfl rfl)
theorem dX14_readLine_25 : decode cX14_readLine 25 = .ok (.if_icmp .le 9, 3) := dk_164 0 9 (dk_at dksX14_readLine_1 2 rfl rfl)
theorem dX14_readLine_28 : decode cX14_readLine 28 = .ok (.aload_n 0, 1) := dk_42 (dk_at dksX14_readLine_1 5 rfl rfl)
theorem dX14_readLine_29 : decode cX14_readLine 29 = .ok (.iconst 1, 1) := dk_4 (dk_at dksX14_readLine_1 6 rfl rfl)
theorem dX14_readLine_30 : decode cX14_readLine 30 = .ok (.invokevirtual 216, 3) := dk_182 0 216 (dk_at dksX14_readLine_1 7 rfl rfl)
theorem dX14_readLine_33 : decode cX14_readLine 33 = .ok (.ireturn, 1) := dk_172 (dk_at dksX14_readLine_1 10 rfl rfl)
theorem dX14_readLine_34 : decode cX14_readLine 34 = .ok (.iload_n 1, 1) := dk_27 (dk_at dksX14_readLine_1 11 rfl rfl)
theorem dX14_readLine_35 : decode cX14_readLine 35 = .ok (.ifCond .ne 10, 3) := dk_154 0 10 (dk_at dksX14_readLine_1 12 rfl rfl)
theorem dX14_readLine_38 : decode cX14_readLine 38 = .ok (.aload_n 0, 1) := dk_42 (dk_at dksX14_readLine_1 15 rfl rfl)
theorem dX14_readLine_39 : decode cX14_readLine 39 = .ok (.invokevirtual 267, 3) := dk_182 1 11 (dk_at dksX14_readLine_1 16 rfl rfl)
theorem dX14_readLine_42 : decode cX14_readLine 42 = .ok (.goto 32, 3) := dk_167 0 32 (dk_at dksX14_readLine_1 19 rfl rfl)
theorem dX14_readLine_45 : decode cX14_readLine 45 = .ok (.iload_n 1, 1) := dk_27 (dk_at dksX14_readLine_1 22 rfl rfl)
theorem dX14_readLine_46 : decode cX14_readLine 46 = .ok (.iconst 1, 1) := dk_4 (dk_at dksX14_readLine_1 23 rfl rfl)
theorem dX14_readLine_47 : decode cX14_readLine 47 = .ok (.if_icmp .ne 10, 3) := dk_160 0 10 (dk_at dksX14_readLine_2 0 rfl rfl)
theorem dX14_readLine_50 : decode cX14_readLine 50 = .ok (.aload_n 0, 1) := dk_42 (dk_at dksX14_readLine_2 3 rfl rfl)
theorem dX14_readLine_51 : decode cX14_readLine 51 = .ok (.invokevirtual 270, 3) := dk_182 1 14 (dk_at dksX14_readLine_2 4 rfl rfl)
theorem dX14_readLine_54 : decode cX14_readLine 54 = .ok (.goto 20, 3) := dk_167 0 20 (dk_at dksX14_readLine_2 7 rfl rfl)
theorem dX14_readLine_57 : decode cX14_readLine 57 = .ok (.iload_n 1, 1) := dk_27 (dk_at dksX14_readLine_2 10 rfl rfl)
theorem dX14_readLine_58 : decode cX14_readLine 58 = .ok (.iconst 2, 1) := dk_5 (dk_at dksX14_readLine_2 11 rfl rfl)
theorem dX14_readLine_59 : decode cX14_readLine 59 = .ok (.if_icmp .ne 10, 3) := dk_160 0 10 (dk_at dksX14_readLine_2 12 rfl rfl)
theorem dX14_readLine_62 : decode cX14_readLine 62 = .ok (.aload_n 0, 1) := dk_42 (dk_at dksX14_readLine_2 15 rfl rfl)
theorem dX14_readLine_63 : decode cX14_readLine 63 = .ok (.invokevirtual 273, 3) := dk_182 1 17 (dk_at dksX14_readLine_2 16 rfl rfl)
theorem dX14_readLine_66 : decode cX14_readLine 66 = .ok (.goto 8, 3) := dk_167 0 8 (dk_at dksX14_readLine_2 19 rfl rfl)
theorem dX14_readLine_69 : decode cX14_readLine 69 = .ok (.aload_n 0, 1) := dk_42 (dk_at dksX14_readLine_2 22 rfl rfl)
theorem dX14_readLine_70 : decode cX14_readLine 70 = .ok (.iload_n 1, 1) := dk_27 (dk_at dksX14_readLine_2 23 rfl rfl)
theorem dX14_readLine_71 : decode cX14_readLine 71 = .ok (.invokevirtual 276, 3) := dk_182 1 20 (dk_at dksX14_readLine_3 0 rfl rfl)
theorem dX14_readLine_74 : decode cX14_readLine 74 = .ok (.istore_n 2, 1) := dk_61 (dk_at dksX14_readLine_3 3 rfl rfl)
theorem dX14_readLine_75 : decode cX14_readLine 75 = .ok (.iload_n 2, 1) := dk_28 (dk_at dksX14_readLine_3 4 rfl rfl)
theorem dX14_readLine_76 : decode cX14_readLine 76 = .ok (.ifCond .eq 14, 3) := dk_153 0 14 (dk_at dksX14_readLine_3 5 rfl rfl)
theorem dX14_readLine_79 : decode cX14_readLine 79 = .ok (.aload_n 0, 1) := dk_42 (dk_at dksX14_readLine_3 8 rfl rfl)
theorem dX14_readLine_80 : decode cX14_readLine 80 = .ok (.invokevirtual 279, 3) := dk_182 1 23 (dk_at dksX14_readLine_3 9 rfl rfl)
theorem dX14_readLine_83 : decode cX14_readLine 83 = .ok (.ifCond .eq 7, 3) := dk_153 0 7 (dk_at dksX14_readLine_3 12 rfl rfl)
theorem dX14_readLine_86 : decode cX14_readLine 86 = .ok (.iconst 1, 1) := dk_4 (dk_at dksX14_readLine_3 15 rfl rfl)
theorem dX14_readLine_87 : decode cX14_readLine 87 = .ok (.goto 4, 3) := dk_167 0 4 (dk_at dksX14_readLine_3 16 rfl rfl)
theorem dX14_readLine_90 : decode cX14_readLine 90 = .ok (.iconst 0, 1) := dk_3 (dk_at dksX14_readLine_3 19 rfl rfl)
theorem dX14_readLine_91 : decode cX14_readLine 91 = .ok (.ireturn, 1) := dk_172 (dk_at dksX14_readLine_3 20 rfl rfl)
abbrev cX14_isWord : ByteArray := prog_23_method_18_code
def yX14_isWord : MethodName := ⟨RX14, "isWord", "(I)Z"⟩
def dkwX14_isWord_1 : List UInt8 := [3, 172]
abbrev dktX14_isWord_1 : List UInt8 := dkwX14_isWord_1 ++ []
def dkwX14_isWord_0 : List UInt8 := [42, 180, 0, 170, 5, 160, 0, 19, 42, 180, 0, 183, 27, 184, 0, 206, 148, 154, 0, 7, 4, 167, 0, 4]
abbrev dktX14_isWord_0 : List UInt8 := dkwX14_isWord_0 ++ dktX14_isWord_1
theorem dksX14_isWord_0 : cX14_isWord.data.toList.drop 0 = dktX14_isWord_0 := by decide +kernel
theorem dksX14_isWord_1 : cX14_isWord.data.toList.drop 24 = dktX14_isWord_1 := dk_seg dksX14_isWord_0 24 rfl rfl
theorem dX14_isWord_0 : decode cX14_isWord 0 = .ok (.aload_n 0, 1) := dk_42 (dk_at dksX14_isWord_0 0 rfl rfl)
theorem dX14_isWord_1 : decode cX14_isWord 1 = .ok (.getfield 170, 3) := dk_180 0 170 (dk_at dksX14_isWord_0 1 rfl rfl)
theorem dX14_isWord_4 : decode cX14_isWord 4 = .ok (.iconst 2, 1) := dk_5 (dk_at dksX14_isWord_0 4 rfl rfl)
theorem dX14_isWord_5 : decode cX14_isWord 5 = .ok (.if_icmp .ne 19, 3) := dk_160 0 19 (dk_at dksX14_isWord_0 5 rfl rfl)
theorem dX14_isWord_8 : decode cX14_isWord 8 = .ok (.aload_n 0, 1) := dk_42 (dk_at dksX14_isWord_0 8 rfl rfl)
theorem dX14_isWord_9 : decode cX14_isWord 9 = .ok (.getfield 183, 3) := dk_180 0 183 (dk_at dksX14_isWord_0 9 rfl rfl)
theorem dX14_isWord_12 : decode cX14_isWord 12 = .ok (.iload_n 1, 1) := dk_27 (dk_at dksX14_isWord_0 12 rfl rfl)
theorem dX14_isWord_13 : decode cX14_isWord 13 = .ok (.invokestatic 206, 3) := dk_184 0 206 (dk_at dksX14_isWord_0 13 rfl rfl)
theorem dX14_isWord_16 : decode cX14_isWord 16 = .ok (.lcmp, 1) := dk_148 (dk_at dksX14_isWord_0 16 rfl rfl)
theorem dX14_isWord_17 : decode cX14_isWord 17 = .ok (.ifCond .ne 7, 3) := dk_154 0 7 (dk_at dksX14_isWord_0 17 rfl rfl)
theorem dX14_isWord_20 : decode cX14_isWord 20 = .ok (.iconst 1, 1) := dk_4 (dk_at dksX14_isWord_0 20 rfl rfl)
theorem dX14_isWord_21 : decode cX14_isWord 21 = .ok (.goto 4, 3) := dk_167 0 4 (dk_at dksX14_isWord_0 21 rfl rfl)
theorem dX14_isWord_24 : decode cX14_isWord 24 = .ok (.iconst 0, 1) := dk_3 (dk_at dksX14_isWord_1 0 rfl rfl)
theorem dX14_isWord_25 : decode cX14_isWord 25 = .ok (.ireturn, 1) := dk_172 (dk_at dksX14_isWord_1 1 rfl rfl)
abbrev cX14_wordOf : ByteArray := prog_23_method_17_code
def yX14_wordOf : MethodName := ⟨RX14, "wordOf", "(I)J"⟩
def dkwX14_wordOf_18 : List UInt8 := [16, 119, 16, 97, 16, 116, 16, 101, 16, 114, 184, 0, 198, 173]
abbrev dktX14_wordOf_18 : List UInt8 := dkwX14_wordOf_18 ++ []
def dkwX14_wordOf_17 : List UInt8 := [16, 115, 16, 116, 3, 184, 0, 198, 173, 16, 98, 16, 117, 16, 114, 16, 110, 16, 115, 184, 0, 198, 173]
abbrev dktX14_wordOf_17 : List UInt8 := dkwX14_wordOf_17 ++ dktX14_wordOf_18
def dkwX14_wordOf_16 : List UInt8 := [16, 116, 16, 104, 16, 114, 16, 111, 16, 119, 184, 0, 198, 16, 110, 184, 0, 202, 173, 16, 108, 16, 111]
abbrev dktX14_wordOf_16 : List UInt8 := dkwX14_wordOf_16 ++ dktX14_wordOf_17
def dkwX14_wordOf_15 : List UInt8 := [184, 0, 198, 173, 16, 109, 16, 105, 16, 110, 16, 117, 16, 116, 184, 0, 198, 16, 101, 184, 0, 202, 173]
abbrev dktX14_wordOf_15 : List UInt8 := dkwX14_wordOf_15 ++ dktX14_wordOf_16
def dkwX14_wordOf_14 : List UInt8 := [184, 0, 198, 173, 16, 110, 16, 111, 16, 116, 3, 3, 184, 0, 198, 173, 16, 111, 16, 117, 16, 116, 3, 3]
abbrev dktX14_wordOf_14 : List UInt8 := dkwX14_wordOf_14 ++ dktX14_wordOf_15
def dkwX14_wordOf_13 : List UInt8 := [184, 0, 198, 173, 16, 111, 16, 114, 3, 3, 3, 184, 0, 198, 173, 16, 97, 16, 110, 16, 100, 3, 3]
abbrev dktX14_wordOf_13 : List UInt8 := dkwX14_wordOf_13 ++ dktX14_wordOf_14
def dkwX14_wordOf_12 : List UInt8 := [173, 16, 97, 16, 105, 16, 109, 3, 3, 184, 0, 198, 173, 16, 103, 16, 105, 16, 118, 16, 101, 3]
abbrev dktX14_wordOf_12 : List UInt8 := dkwX14_wordOf_12 ++ dktX14_wordOf_13
def dkwX14_wordOf_11 : List UInt8 := [16, 114, 16, 117, 16, 110, 3, 3, 184, 0, 198, 173, 16, 115, 16, 116, 16, 111, 16, 112, 3, 184, 0, 198]
abbrev dktX14_wordOf_11 : List UInt8 := dkwX14_wordOf_11 ++ dktX14_wordOf_12
def dkwX14_wordOf_10 : List UInt8 := [173, 16, 97, 16, 116, 3, 3, 3, 184, 0, 198, 173, 16, 114, 16, 111, 16, 119, 3, 3, 184, 0, 198, 173]
abbrev dktX14_wordOf_10 : List UInt8 := dkwX14_wordOf_10 ++ dktX14_wordOf_11
def dkwX14_wordOf_9 : List UInt8 := [16, 111, 16, 117, 16, 116, 16, 104, 184, 0, 198, 173, 16, 119, 16, 101, 16, 115, 16, 116, 3, 184, 0, 198]
abbrev dktX14_wordOf_9 : List UInt8 := dkwX14_wordOf_9 ++ dktX14_wordOf_10
def dkwX14_wordOf_8 : List UInt8 := [16, 116, 16, 104, 184, 0, 198, 173, 16, 101, 16, 97, 16, 115, 16, 116, 3, 184, 0, 198, 173, 16, 115]
abbrev dktX14_wordOf_8 : List UInt8 := dkwX14_wordOf_8 ++ dktX14_wordOf_9
def dkwX14_wordOf_7 : List UInt8 := [184, 0, 198, 173, 16, 119, 16, 105, 16, 110, 16, 100, 3, 184, 0, 198, 173, 16, 110, 16, 111, 16, 114]
abbrev dktX14_wordOf_7 : List UInt8 := dkwX14_wordOf_7 ++ dktX14_wordOf_8
def dkwX14_wordOf_6 : List UInt8 := [16, 98, 16, 97, 16, 99, 16, 107, 3, 184, 0, 198, 173, 16, 116, 16, 104, 16, 114, 16, 111, 16, 119]
abbrev dktX14_wordOf_6 : List UInt8 := dkwX14_wordOf_6 ++ dktX14_wordOf_7
def dkwX14_wordOf_5 : List UInt8 := [16, 108, 16, 108, 3, 184, 0, 198, 173, 16, 115, 16, 112, 16, 105, 16, 108, 16, 108, 184, 0, 198, 173]
abbrev dktX14_wordOf_5 : List UInt8 := dkwX14_wordOf_5 ++ dktX14_wordOf_6
def dkwX14_wordOf_4 : List UInt8 := [3, 184, 0, 198, 173, 16, 112, 16, 97, 16, 105, 16, 108, 16, 115, 184, 0, 198, 173, 16, 119, 16, 101]
abbrev dktX14_wordOf_4 : List UInt8 := dkwX14_wordOf_4 ++ dktX14_wordOf_5
def dkwX14_wordOf_3 : List UInt8 := [184, 0, 198, 173, 16, 98, 16, 117, 16, 114, 16, 110, 3, 184, 0, 198, 173, 16, 119, 16, 97, 16, 121, 3]
abbrev dktX14_wordOf_3 : List UInt8 := dkwX14_wordOf_3 ++ dktX14_wordOf_4
def dkwX14_wordOf_2 : List UInt8 := [16, 109, 16, 97, 16, 110, 3, 3, 184, 0, 198, 173, 16, 99, 16, 101, 16, 108, 16, 108, 16, 115]
abbrev dktX14_wordOf_2 : List UInt8 := dkwX14_wordOf_2 ++ dktX14_wordOf_3
def dkwX14_wordOf_1 : List UInt8 := [170, 0, 0, 0, 0, 1, 242, 0, 0, 0, 0, 0, 0, 0, 27, 0, 0, 0, 127, 0, 0, 0, 139, 0, 0, 0, 153, 0, 0, 0, 166, 0, 0, 0, 178, 0, 0, 0, 192, 0, 0, 0, 205, 0, 0, 0, 219, 0, 0, 0, 232, 0, 0, 0, 246, 0, 0, 1, 3, 0, 0, 1, 17, 0, 0, 1, 30, 0, 0, 1, 44, 0, 0, 1, 57, 0, 0, 1, 68, 0, 0, 1, 80, 0, 0, 1, 92, 0, 0, 1, 105, 0, 0, 1, 117, 0, 0, 1, 130, 0, 0, 1, 141, 0, 0, 1, 153, 0, 0, 1, 165, 0, 0, 1, 177, 0, 0, 1, 196, 0, 0, 1, 215, 0, 0, 1, 228]
abbrev dktX14_wordOf_1 : List UInt8 := dkwX14_wordOf_1 ++ dktX14_wordOf_2
def dkwX14_wordOf_0 : List UInt8 := [26]
abbrev dktX14_wordOf_0 : List UInt8 := dkwX14_wordOf_0 ++ dktX14_wordOf_1
theorem dksX14_wordOf_0 : cX14_wordOf.data.toList.drop 0 = dktX14_wordOf_0 := by decide +kernel
theorem dksX14_wordOf_1 : cX14_wordOf.data.toList.drop 1 = dktX14_wordOf_1 := dk_seg dksX14_wordOf_0 1 rfl rfl
theorem dksX14_wordOf_2 : cX14_wordOf.data.toList.drop 128 = dktX14_wordOf_2 := dk_seg dksX14_wordOf_1 127 rfl rfl
theorem dksX14_wordOf_3 : cX14_wordOf.data.toList.drop 150 = dktX14_wordOf_3 := dk_seg dksX14_wordOf_2 22 rfl rfl
theorem dksX14_wordOf_4 : cX14_wordOf.data.toList.drop 174 = dktX14_wordOf_4 := dk_seg dksX14_wordOf_3 24 rfl rfl
theorem dksX14_wordOf_5 : cX14_wordOf.data.toList.drop 197 = dktX14_wordOf_5 := dk_seg dksX14_wordOf_4 23 rfl rfl
theorem dksX14_wordOf_6 : cX14_wordOf.data.toList.drop 220 = dktX14_wordOf_6 := dk_seg dksX14_wordOf_5 23 rfl rfl
theorem dksX14_wordOf_7 : cX14_wordOf.data.toList.drop 243 = dktX14_wordOf_7 := dk_seg dksX14_wordOf_6 23 rfl rfl
theorem dksX14_wordOf_8 : cX14_wordOf.data.toList.drop 266 = dktX14_wordOf_8 := dk_seg dksX14_wordOf_7 23 rfl rfl
theorem dksX14_wordOf_9 : cX14_wordOf.data.toList.drop 289 = dktX14_wordOf_9 := dk_seg dksX14_wordOf_8 23 rfl rfl
theorem dksX14_wordOf_10 : cX14_wordOf.data.toList.drop 313 = dktX14_wordOf_10 := dk_seg dksX14_wordOf_9 24 rfl rfl
theorem dksX14_wordOf_11 : cX14_wordOf.data.toList.drop 337 = dktX14_wordOf_11 := dk_seg dksX14_wordOf_10 24 rfl rfl
theorem dksX14_wordOf_12 : cX14_wordOf.data.toList.drop 361 = dktX14_wordOf_12 := dk_seg dksX14_wordOf_11 24 rfl rfl
theorem dksX14_wordOf_13 : cX14_wordOf.data.toList.drop 383 = dktX14_wordOf_13 := dk_seg dksX14_wordOf_12 22 rfl rfl
theorem dksX14_wordOf_14 : cX14_wordOf.data.toList.drop 406 = dktX14_wordOf_14 := dk_seg dksX14_wordOf_13 23 rfl rfl
theorem dksX14_wordOf_15 : cX14_wordOf.data.toList.drop 430 = dktX14_wordOf_15 := dk_seg dksX14_wordOf_14 24 rfl rfl
theorem dksX14_wordOf_16 : cX14_wordOf.data.toList.drop 453 = dktX14_wordOf_16 := dk_seg dksX14_wordOf_15 23 rfl rfl
theorem dksX14_wordOf_17 : cX14_wordOf.data.toList.drop 476 = dktX14_wordOf_17 := dk_seg dksX14_wordOf_16 23 rfl rfl
theorem dksX14_wordOf_18 : cX14_wordOf.data.toList.drop 499 = dktX14_wordOf_18 := dk_seg dksX14_wordOf_17 23 rfl rfl
theorem dX14_wordOf_0 : decode cX14_wordOf 0 = .ok (.iload_n 0, 1) := dk_26 (dk_at dksX14_wordOf_0 0 rfl rfl)
theorem dX14_wordOf_1 : decode cX14_wordOf 1 = .ok (.tableswitch 498 0 27 #[127, 139, 153, 166, 178, 192, 205, 219, 232, 246, 259, 273, 286, 300, 313, 324, 336, 348, 361, 373, 386, 397, 409, 421, 433, 452, 471, 484], 127) := by decide +kernel
theorem dX14_wordOf_128 : decode cX14_wordOf 128 = .ok (.bipush 109, 2) := dk_16 109 (dk_at dksX14_wordOf_2 0 rfl rfl)
theorem dX14_wordOf_130 : decode cX14_wordOf 130 = .ok (.bipush 97, 2) := dk_16 97 (dk_at dksX14_wordOf_2 2 rfl rfl)
theorem dX14_wordOf_132 : decode cX14_wordOf 132 = .ok (.bipush 110, 2) := dk_16 110 (dk_at dksX14_wordOf_2 4 rfl rfl)
theorem dX14_wordOf_134 : decode cX14_wordOf 134 = .ok (.iconst 0, 1) := dk_3 (dk_at dksX14_wordOf_2 6 rfl rfl)
theorem dX14_wordOf_135 : decode cX14_wordOf 135 = .ok (.iconst 0, 1) := dk_3 (dk_at dksX14_wordOf_2 7 rfl rfl)
theorem dX14_wordOf_136 : decode cX14_wordOf 136 = .ok (.invokestatic 198, 3) := dk_184 0 198 (dk_at dksX14_wordOf_2 8 rfl rfl)
theorem dX14_wordOf_139 : decode cX14_wordOf 139 = .ok (.lreturn, 1) := dk_173 (dk_at dksX14_wordOf_2 11 rfl rfl)
theorem dX14_wordOf_140 : decode cX14_wordOf 140 = .ok (.bipush 99, 2) := dk_16 99 (dk_at dksX14_wordOf_2 12 rfl rfl)
theorem dX14_wordOf_142 : decode cX14_wordOf 142 = .ok (.bipush 101, 2) := dk_16 101 (dk_at dksX14_wordOf_2 14 rfl rfl)
theorem dX14_wordOf_144 : decode cX14_wordOf 144 = .ok (.bipush 108, 2) := dk_16 108 (dk_at dksX14_wordOf_2 16 rfl rfl)
theorem dX14_wordOf_146 : decode cX14_wordOf 146 = .ok (.bipush 108, 2) := dk_16 108 (dk_at dksX14_wordOf_2 18 rfl rfl)
theorem dX14_wordOf_148 : decode cX14_wordOf 148 = .ok (.bipush 115, 2) := dk_16 115 (dk_at dksX14_wordOf_2 20 rfl rfl)
theorem dX14_wordOf_150 : decode cX14_wordOf 150 = .ok (.invokestatic 198, 3) := dk_184 0 198 (dk_at dksX14_wordOf_3 0 rfl rfl)
theorem dX14_wordOf_153 : decode cX14_wordOf 153 = .ok (.lreturn, 1) := dk_173 (dk_at dksX14_wordOf_3 3 rfl rfl)
theorem dX14_wordOf_154 : decode cX14_wordOf 154 = .ok (.bipush 98, 2) := dk_16 98 (dk_at dksX14_wordOf_3 4 rfl rfl)
theorem dX14_wordOf_156 : decode cX14_wordOf 156 = .ok (.bipush 117, 2) := dk_16 117 (dk_at dksX14_wordOf_3 6 rfl rfl)
theorem dX14_wordOf_158 : decode cX14_wordOf 158 = .ok (.bipush 114, 2) := dk_16 114 (dk_at dksX14_wordOf_3 8 rfl rfl)
theorem dX14_wordOf_160 : decode cX14_wordOf 160 = .ok (.bipush 110, 2) := dk_16 110 (dk_at dksX14_wordOf_3 10 rfl rfl)
theorem dX14_wordOf_162 : decode cX14_wordOf 162 = .ok (.iconst 0, 1) := dk_3 (dk_at dksX14_wordOf_3 12 rfl rfl)
theorem dX14_wordOf_163 : decode cX14_wordOf 163 = .ok (.invokestatic 198, 3) := dk_184 0 198 (dk_at dksX14_wordOf_3 13 rfl rfl)
theorem dX14_wordOf_166 : decode cX14_wordOf 166 = .ok (.lreturn, 1) := dk_173 (dk_at dksX14_wordOf_3 16 rfl rfl)
theorem dX14_wordOf_167 : decode cX14_wordOf 167 = .ok (.bipush 119, 2) := dk_16 119 (dk_at dksX14_wordOf_3 17 rfl rfl)
theorem dX14_wordOf_169 : decode cX14_wordOf 169 = .ok (.bipush 97, 2) := dk_16 97 (dk_at dksX14_wordOf_3 19 rfl rfl)
theorem dX14_wordOf_171 : decode cX14_wordOf 171 = .ok (.bipush 121, 2) := dk_16 121 (dk_at dksX14_wordOf_3 21 rfl rfl)
theorem dX14_wordOf_173 : decode cX14_wordOf 173 = .ok (.iconst 0, 1) := dk_3 (dk_at dksX14_wordOf_3 23 rfl rfl)
theorem dX14_wordOf_174 : decode cX14_wordOf 174 = .ok (.iconst 0, 1) := dk_3 (dk_at dksX14_wordOf_4 0 rfl rfl)
theorem dX14_wordOf_175 : decode cX14_wordOf 175 = .ok (.invokestatic 198, 3) := dk_184 0 198 (dk_at dksX14_wordOf_4 1 rfl rfl)
theorem dX14_wordOf_178 : decode cX14_wordOf 178 = .ok (.lreturn, 1) := dk_173 (dk_at dksX14_wordOf_4 4 rfl rfl)
theorem dX14_wordOf_179 : decode cX14_wordOf 179 = .ok (.bipush 112, 2) := dk_16 112 (dk_at dksX14_wordOf_4 5 rfl rfl)
theorem dX14_wordOf_181 : decode cX14_wordOf 181 = .ok (.bipush 97, 2) := dk_16 97 (dk_at dksX14_wordOf_4 7 rfl rfl)
theorem dX14_wordOf_183 : decode cX14_wordOf 183 = .ok (.bipush 105, 2) := dk_16 105 (dk_at dksX14_wordOf_4 9 rfl rfl)
theorem dX14_wordOf_185 : decode cX14_wordOf 185 = .ok (.bipush 108, 2) := dk_16 108 (dk_at dksX14_wordOf_4 11 rfl rfl)
theorem dX14_wordOf_187 : decode cX14_wordOf 187 = .ok (.bipush 115, 2) := dk_16 115 (dk_at dksX14_wordOf_4 13 rfl rfl)
theorem dX14_wordOf_189 : decode cX14_wordOf 189 = .ok (.invokestatic 198, 3) := dk_184 0 198 (dk_at dksX14_wordOf_4 15 rfl rfl)
theorem dX14_wordOf_192 : decode cX14_wordOf 192 = .ok (.lreturn, 1) := dk_173 (dk_at dksX14_wordOf_4 18 rfl rfl)
theorem dX14_wordOf_193 : decode cX14_wordOf 193 = .ok (.bipush 119, 2) := dk_16 119 (dk_at dksX14_wordOf_4 19 rfl rfl)
theorem dX14_wordOf_195 : decode cX14_wordOf 195 = .ok (.bipush 101, 2) := dk_16 101 (dk_at dksX14_wordOf_4 21 rfl rfl)
theorem dX14_wordOf_197 : decode cX14_wordOf 197 = .ok (.bipush 108, 2) := dk_16 108 (dk_at dksX14_wordOf_5 0 rfl rfl)
theorem dX14_wordOf_199 : decode cX14_wordOf 199 = .ok (.bipush 108, 2) := dk_16 108 (dk_at dksX14_wordOf_5 2 rfl rfl)
theorem dX14_wordOf_201 : decode cX14_wordOf 201 = .ok (.iconst 0, 1) := dk_3 (dk_at dksX14_wordOf_5 4 rfl rfl)
theorem dX14_wordOf_202 : decode cX14_wordOf 202 = .ok (.invokestatic 198, 3) := dk_184 0 198 (dk_at dksX14_wordOf_5 5 rfl rfl)
theorem dX14_wordOf_205 : decode cX14_wordOf 205 = .ok (.lreturn, 1) := dk_173 (dk_at dksX14_wordOf_5 8 rfl rfl)
theorem dX14_wordOf_206 : decode cX14_wordOf 206 = .ok (.bipush 115, 2) := dk_16 115 (dk_at dksX14_wordOf_5 9 rfl rfl)
theorem dX14_wordOf_208 : decode cX14_wordOf 208 = .ok (.bipush 112, 2) := dk_16 112 (dk_at dksX14_wordOf_5 11 rfl rfl)
theorem dX14_wordOf_210 : decode cX14_wordOf 210 = .ok (.bipush 105, 2) := dk_16 105 (dk_at dksX14_wordOf_5 13 rfl rfl)
theorem dX14_wordOf_212 : decode cX14_wordOf 212 = .ok (.bipush 108, 2) := dk_16 108 (dk_at dksX14_wordOf_5 15 rfl rfl)
theorem dX14_wordOf_214 : decode cX14_wordOf 214 = .ok (.bipush 108, 2) := dk_16 108 (dk_at dksX14_wordOf_5 17 rfl rfl)
theorem dX14_wordOf_216 : decode cX14_wordOf 216 = .ok (.invokestatic 198, 3) := dk_184 0 198 (dk_at dksX14_wordOf_5 19 rfl rfl)
theorem dX14_wordOf_219 : decode cX14_wordOf 219 = .ok (.lreturn, 1) := dk_173 (dk_at dksX14_wordOf_5 22 rfl rfl)
theorem dX14_wordOf_220 : decode cX14_wordOf 220 = .ok (.bipush 98, 2) := dk_16 98 (dk_at dksX14_wordOf_6 0 rfl rfl)
theorem dX14_wordOf_222 : decode cX14_wordOf 222 = .ok (.bipush 97, 2) := dk_16 97 (dk_at dksX14_wordOf_6 2 rfl rfl)
theorem dX14_wordOf_224 : decode cX14_wordOf 224 = .ok (.bipush 99, 2) := dk_16 99 (dk_at dksX14_wordOf_6 4 rfl rfl)
theorem dX14_wordOf_226 : decode cX14_wordOf 226 = .ok (.bipush 107, 2) := dk_16 107 (dk_at dksX14_wordOf_6 6 rfl rfl)
theorem dX14_wordOf_228 : decode cX14_wordOf 228 = .ok (.iconst 0, 1) := dk_3 (dk_at dksX14_wordOf_6 8 rfl rfl)
theorem dX14_wordOf_229 : decode cX14_wordOf 229 = .ok (.invokestatic 198, 3) := dk_184 0 198 (dk_at dksX14_wordOf_6 9 rfl rfl)
theorem dX14_wordOf_232 : decode cX14_wordOf 232 = .ok (.lreturn, 1) := dk_173 (dk_at dksX14_wordOf_6 12 rfl rfl)
theorem dX14_wordOf_233 : decode cX14_wordOf 233 = .ok (.bipush 116, 2) := dk_16 116 (dk_at dksX14_wordOf_6 13 rfl rfl)
theorem dX14_wordOf_235 : decode cX14_wordOf 235 = .ok (.bipush 104, 2) := dk_16 104 (dk_at dksX14_wordOf_6 15 rfl rfl)
theorem dX14_wordOf_237 : decode cX14_wordOf 237 = .ok (.bipush 114, 2) := dk_16 114 (dk_at dksX14_wordOf_6 17 rfl rfl)
theorem dX14_wordOf_239 : decode cX14_wordOf 239 = .ok (.bipush 111, 2) := dk_16 111 (dk_at dksX14_wordOf_6 19 rfl rfl)
theorem dX14_wordOf_241 : decode cX14_wordOf 241 = .ok (.bipush 119, 2) := dk_16 119 (dk_at dksX14_wordOf_6 21 rfl rfl)
theorem dX14_wordOf_243 : decode cX14_wordOf 243 = .ok (.invokestatic 198, 3) := dk_184 0 198 (dk_at dksX14_wordOf_7 0 rfl rfl)
theorem dX14_wordOf_246 : decode cX14_wordOf 246 = .ok (.lreturn, 1) := dk_173 (dk_at dksX14_wordOf_7 3 rfl rfl)
theorem dX14_wordOf_247 : decode cX14_wordOf 247 = .ok (.bipush 119, 2) := dk_16 119 (dk_at dksX14_wordOf_7 4 rfl rfl)
theorem dX14_wordOf_249 : decode cX14_wordOf 249 = .ok (.bipush 105, 2) := dk_16 105 (dk_at dksX14_wordOf_7 6 rfl rfl)
theorem dX14_wordOf_251 : decode cX14_wordOf 251 = .ok (.bipush 110, 2) := dk_16 110 (dk_at dksX14_wordOf_7 8 rfl rfl)
theorem dX14_wordOf_253 : decode cX14_wordOf 253 = .ok (.bipush 100, 2) := dk_16 100 (dk_at dksX14_wordOf_7 10 rfl rfl)
theorem dX14_wordOf_255 : decode cX14_wordOf 255 = .ok (.iconst 0, 1) := dk_3 (dk_at dksX14_wordOf_7 12 rfl rfl)
theorem dX14_wordOf_256 : decode cX14_wordOf 256 = .ok (.invokestatic 198, 3) := dk_184 0 198 (dk_at dksX14_wordOf_7 13 rfl rfl)
theorem dX14_wordOf_259 : decode cX14_wordOf 259 = .ok (.lreturn, 1) := dk_173 (dk_at dksX14_wordOf_7 16 rfl rfl)
theorem dX14_wordOf_260 : decode cX14_wordOf 260 = .ok (.bipush 110, 2) := dk_16 110 (dk_at dksX14_wordOf_7 17 rfl rfl)
theorem dX14_wordOf_262 : decode cX14_wordOf 262 = .ok (.bipush 111, 2) := dk_16 111 (dk_at dksX14_wordOf_7 19 rfl rfl)
theorem dX14_wordOf_264 : decode cX14_wordOf 264 = .ok (.bipush 114, 2) := dk_16 114 (dk_at dksX14_wordOf_7 21 rfl rfl)
theorem dX14_wordOf_266 : decode cX14_wordOf 266 = .ok (.bipush 116, 2) := dk_16 116 (dk_at dksX14_wordOf_8 0 rfl rfl)
theorem dX14_wordOf_268 : decode cX14_wordOf 268 = .ok (.bipush 104, 2) := dk_16 104 (dk_at dksX14_wordOf_8 2 rfl rfl)
theorem dX14_wordOf_270 : decode cX14_wordOf 270 = .ok (.invokestatic 198, 3) := dk_184 0 198 (dk_at dksX14_wordOf_8 4 rfl rfl)
theorem dX14_wordOf_273 : decode cX14_wordOf 273 = .ok (.lreturn, 1) := dk_173 (dk_at dksX14_wordOf_8 7 rfl rfl)
theorem dX14_wordOf_274 : decode cX14_wordOf 274 = .ok (.bipush 101, 2) := dk_16 101 (dk_at dksX14_wordOf_8 8 rfl rfl)
theorem dX14_wordOf_276 : decode cX14_wordOf 276 = .ok (.bipush 97, 2) := dk_16 97 (dk_at dksX14_wordOf_8 10 rfl rfl)
theorem dX14_wordOf_278 : decode cX14_wordOf 278 = .ok (.bipush 115, 2) := dk_16 115 (dk_at dksX14_wordOf_8 12 rfl rfl)
theorem dX14_wordOf_280 : decode cX14_wordOf 280 = .ok (.bipush 116, 2) := dk_16 116 (dk_at dksX14_wordOf_8 14 rfl rfl)
theorem dX14_wordOf_282 : decode cX14_wordOf 282 = .ok (.iconst 0, 1) := dk_3 (dk_at dksX14_wordOf_8 16 rfl rfl)
theorem dX14_wordOf_283 : decode cX14_wordOf 283 = .ok (.invokestatic 198, 3) := dk_184 0 198 (dk_at dksX14_wordOf_8 17 rfl rfl)
theorem dX14_wordOf_286 : decode cX14_wordOf 286 = .ok (.lreturn, 1) := dk_173 (dk_at dksX14_wordOf_8 20 rfl rfl)
theorem dX14_wordOf_287 : decode cX14_wordOf 287 = .ok (.bipush 115, 2) := dk_16 115 (dk_at dksX14_wordOf_8 21 rfl rfl)
theorem dX14_wordOf_289 : decode cX14_wordOf 289 = .ok (.bipush 111, 2) := dk_16 111 (dk_at dksX14_wordOf_9 0 rfl rfl)
theorem dX14_wordOf_291 : decode cX14_wordOf 291 = .ok (.bipush 117, 2) := dk_16 117 (dk_at dksX14_wordOf_9 2 rfl rfl)
theorem dX14_wordOf_293 : decode cX14_wordOf 293 = .ok (.bipush 116, 2) := dk_16 116 (dk_at dksX14_wordOf_9 4 rfl rfl)
theorem dX14_wordOf_295 : decode cX14_wordOf 295 = .ok (.bipush 104, 2) := dk_16 104 (dk_at dksX14_wordOf_9 6 rfl rfl)
theorem dX14_wordOf_297 : decode cX14_wordOf 297 = .ok (.invokestatic 198, 3) := dk_184 0 198 (dk_at dksX14_wordOf_9 8 rfl rfl)
theorem dX14_wordOf_300 : decode cX14_wordOf 300 = .ok (.lreturn, 1) := dk_173 (dk_at dksX14_wordOf_9 11 rfl rfl)
theorem dX14_wordOf_301 : decode cX14_wordOf 301 = .ok (.bipush 119, 2) := dk_16 119 (dk_at dksX14_wordOf_9 12 rfl rfl)
theorem dX14_wordOf_303 : decode cX14_wordOf 303 = .ok (.bipush 101, 2) := dk_16 101 (dk_at dksX14_wordOf_9 14 rfl rfl)
theorem dX14_wordOf_305 : decode cX14_wordOf 305 = .ok (.bipush 115, 2) := dk_16 115 (dk_at dksX14_wordOf_9 16 rfl rfl)
theorem dX14_wordOf_307 : decode cX14_wordOf 307 = .ok (.bipush 116, 2) := dk_16 116 (dk_at dksX14_wordOf_9 18 rfl rfl)
theorem dX14_wordOf_309 : decode cX14_wordOf 309 = .ok (.iconst 0, 1) := dk_3 (dk_at dksX14_wordOf_9 20 rfl rfl)
theorem dX14_wordOf_310 : decode cX14_wordOf 310 = .ok (.invokestatic 198, 3) := dk_184 0 198 (dk_at dksX14_wordOf_9 21 rfl rfl)
theorem dX14_wordOf_313 : decode cX14_wordOf 313 = .ok (.lreturn, 1) := dk_173 (dk_at dksX14_wordOf_10 0 rfl rfl)
theorem dX14_wordOf_314 : decode cX14_wordOf 314 = .ok (.bipush 97, 2) := dk_16 97 (dk_at dksX14_wordOf_10 1 rfl rfl)
theorem dX14_wordOf_316 : decode cX14_wordOf 316 = .ok (.bipush 116, 2) := dk_16 116 (dk_at dksX14_wordOf_10 3 rfl rfl)
theorem dX14_wordOf_318 : decode cX14_wordOf 318 = .ok (.iconst 0, 1) := dk_3 (dk_at dksX14_wordOf_10 5 rfl rfl)
theorem dX14_wordOf_319 : decode cX14_wordOf 319 = .ok (.iconst 0, 1) := dk_3 (dk_at dksX14_wordOf_10 6 rfl rfl)
theorem dX14_wordOf_320 : decode cX14_wordOf 320 = .ok (.iconst 0, 1) := dk_3 (dk_at dksX14_wordOf_10 7 rfl rfl)
theorem dX14_wordOf_321 : decode cX14_wordOf 321 = .ok (.invokestatic 198, 3) := dk_184 0 198 (dk_at dksX14_wordOf_10 8 rfl rfl)
theorem dX14_wordOf_324 : decode cX14_wordOf 324 = .ok (.lreturn, 1) := dk_173 (dk_at dksX14_wordOf_10 11 rfl rfl)
theorem dX14_wordOf_325 : decode cX14_wordOf 325 = .ok (.bipush 114, 2) := dk_16 114 (dk_at dksX14_wordOf_10 12 rfl rfl)
theorem dX14_wordOf_327 : decode cX14_wordOf 327 = .ok (.bipush 111, 2) := dk_16 111 (dk_at dksX14_wordOf_10 14 rfl rfl)
theorem dX14_wordOf_329 : decode cX14_wordOf 329 = .ok (.bipush 119, 2) := dk_16 119 (dk_at dksX14_wordOf_10 16 rfl rfl)
theorem dX14_wordOf_331 : decode cX14_wordOf 331 = .ok (.iconst 0, 1) := dk_3 (dk_at dksX14_wordOf_10 18 rfl rfl)
theorem dX14_wordOf_332 : decode cX14_wordOf 332 = .ok (.iconst 0, 1) := dk_3 (dk_at dksX14_wordOf_10 19 rfl rfl)
theorem dX14_wordOf_333 : decode cX14_wordOf 333 = .ok (.invokestatic 198, 3) := dk_184 0 198 (dk_at dksX14_wordOf_10 20 rfl rfl)
theorem dX14_wordOf_336 : decode cX14_wordOf 336 = .ok (.lreturn, 1) := dk_173 (dk_at dksX14_wordOf_10 23 rfl rfl)
theorem dX14_wordOf_337 : decode cX14_wordOf 337 = .ok (.bipush 114, 2) := dk_16 114 (dk_at dksX14_wordOf_11 0 rfl rfl)
theorem dX14_wordOf_339 : decode cX14_wordOf 339 = .ok (.bipush 117, 2) := dk_16 117 (dk_at dksX14_wordOf_11 2 rfl rfl)
theorem dX14_wordOf_341 : decode cX14_wordOf 341 = .ok (.bipush 110, 2) := dk_16 110 (dk_at dksX14_wordOf_11 4 rfl rfl)
theorem dX14_wordOf_343 : decode cX14_wordOf 343 = .ok (.iconst 0, 1) := dk_3 (dk_at dksX14_wordOf_11 6 rfl rfl)
theorem dX14_wordOf_344 : decode cX14_wordOf 344 = .ok (.iconst 0, 1) := dk_3 (dk_at dksX14_wordOf_11 7 rfl rfl)
theorem dX14_wordOf_345 : decode cX14_wordOf 345 = .ok (.invokestatic 198, 3) := dk_184 0 198 (dk_at dksX14_wordOf_11 8 rfl rfl)
theorem dX14_wordOf_348 : decode cX14_wordOf 348 = .ok (.lreturn, 1) := dk_173 (dk_at dksX14_wordOf_11 11 rfl rfl)
theorem dX14_wordOf_349 : decode cX14_wordOf 349 = .ok (.bipush 115, 2) := dk_16 115 (dk_at dksX14_wordOf_11 12 rfl rfl)
theorem dX14_wordOf_351 : decode cX14_wordOf 351 = .ok (.bipush 116, 2) := dk_16 116 (dk_at dksX14_wordOf_11 14 rfl rfl)
theorem dX14_wordOf_353 : decode cX14_wordOf 353 = .ok (.bipush 111, 2) := dk_16 111 (dk_at dksX14_wordOf_11 16 rfl rfl)
theorem dX14_wordOf_355 : decode cX14_wordOf 355 = .ok (.bipush 112, 2) := dk_16 112 (dk_at dksX14_wordOf_11 18 rfl rfl)
theorem dX14_wordOf_357 : decode cX14_wordOf 357 = .ok (.iconst 0, 1) := dk_3 (dk_at dksX14_wordOf_11 20 rfl rfl)
theorem dX14_wordOf_358 : decode cX14_wordOf 358 = .ok (.invokestatic 198, 3) := dk_184 0 198 (dk_at dksX14_wordOf_11 21 rfl rfl)
theorem dX14_wordOf_361 : decode cX14_wordOf 361 = .ok (.lreturn, 1) := dk_173 (dk_at dksX14_wordOf_12 0 rfl rfl)
theorem dX14_wordOf_362 : decode cX14_wordOf 362 = .ok (.bipush 97, 2) := dk_16 97 (dk_at dksX14_wordOf_12 1 rfl rfl)
theorem dX14_wordOf_364 : decode cX14_wordOf 364 = .ok (.bipush 105, 2) := dk_16 105 (dk_at dksX14_wordOf_12 3 rfl rfl)
theorem dX14_wordOf_366 : decode cX14_wordOf 366 = .ok (.bipush 109, 2) := dk_16 109 (dk_at dksX14_wordOf_12 5 rfl rfl)
theorem dX14_wordOf_368 : decode cX14_wordOf 368 = .ok (.iconst 0, 1) := dk_3 (dk_at dksX14_wordOf_12 7 rfl rfl)
theorem dX14_wordOf_369 : decode cX14_wordOf 369 = .ok (.iconst 0, 1) := dk_3 (dk_at dksX14_wordOf_12 8 rfl rfl)
theorem dX14_wordOf_370 : decode cX14_wordOf 370 = .ok (.invokestatic 198, 3) := dk_184 0 198 (dk_at dksX14_wordOf_12 9 rfl rfl)
theorem dX14_wordOf_373 : decode cX14_wordOf 373 = .ok (.lreturn, 1) := dk_173 (dk_at dksX14_wordOf_12 12 rfl rfl)
theorem dX14_wordOf_374 : decode cX14_wordOf 374 = .ok (.bipush 103, 2) := dk_16 103 (dk_at dksX14_wordOf_12 13 rfl rfl)
theorem dX14_wordOf_376 : decode cX14_wordOf 376 = .ok (.bipush 105, 2) := dk_16 105 (dk_at dksX14_wordOf_12 15 rfl rfl)
theorem dX14_wordOf_378 : decode cX14_wordOf 378 = .ok (.bipush 118, 2) := dk_16 118 (dk_at dksX14_wordOf_12 17 rfl rfl)
theorem dX14_wordOf_380 : decode cX14_wordOf 380 = .ok (.bipush 101, 2) := dk_16 101 (dk_at dksX14_wordOf_12 19 rfl rfl)
theorem dX14_wordOf_382 : decode cX14_wordOf 382 = .ok (.iconst 0, 1) := dk_3 (dk_at dksX14_wordOf_12 21 rfl rfl)
theorem dX14_wordOf_383 : decode cX14_wordOf 383 = .ok (.invokestatic 198, 3) := dk_184 0 198 (dk_at dksX14_wordOf_13 0 rfl rfl)
theorem dX14_wordOf_386 : decode cX14_wordOf 386 = .ok (.lreturn, 1) := dk_173 (dk_at dksX14_wordOf_13 3 rfl rfl)
theorem dX14_wordOf_387 : decode cX14_wordOf 387 = .ok (.bipush 111, 2) := dk_16 111 (dk_at dksX14_wordOf_13 4 rfl rfl)
theorem dX14_wordOf_389 : decode cX14_wordOf 389 = .ok (.bipush 114, 2) := dk_16 114 (dk_at dksX14_wordOf_13 6 rfl rfl)
theorem dX14_wordOf_391 : decode cX14_wordOf 391 = .ok (.iconst 0, 1) := dk_3 (dk_at dksX14_wordOf_13 8 rfl rfl)
theorem dX14_wordOf_392 : decode cX14_wordOf 392 = .ok (.iconst 0, 1) := dk_3 (dk_at dksX14_wordOf_13 9 rfl rfl)
theorem dX14_wordOf_393 : decode cX14_wordOf 393 = .ok (.iconst 0, 1) := dk_3 (dk_at dksX14_wordOf_13 10 rfl rfl)
theorem dX14_wordOf_394 : decode cX14_wordOf 394 = .ok (.invokestatic 198, 3) := dk_184 0 198 (dk_at dksX14_wordOf_13 11 rfl rfl)
theorem dX14_wordOf_397 : decode cX14_wordOf 397 = .ok (.lreturn, 1) := dk_173 (dk_at dksX14_wordOf_13 14 rfl rfl)
theorem dX14_wordOf_398 : decode cX14_wordOf 398 = .ok (.bipush 97, 2) := dk_16 97 (dk_at dksX14_wordOf_13 15 rfl rfl)
theorem dX14_wordOf_400 : decode cX14_wordOf 400 = .ok (.bipush 110, 2) := dk_16 110 (dk_at dksX14_wordOf_13 17 rfl rfl)
theorem dX14_wordOf_402 : decode cX14_wordOf 402 = .ok (.bipush 100, 2) := dk_16 100 (dk_at dksX14_wordOf_13 19 rfl rfl)
theorem dX14_wordOf_404 : decode cX14_wordOf 404 = .ok (.iconst 0, 1) := dk_3 (dk_at dksX14_wordOf_13 21 rfl rfl)
theorem dX14_wordOf_405 : decode cX14_wordOf 405 = .ok (.iconst 0, 1) := dk_3 (dk_at dksX14_wordOf_13 22 rfl rfl)
theorem dX14_wordOf_406 : decode cX14_wordOf 406 = .ok (.invokestatic 198, 3) := dk_184 0 198 (dk_at dksX14_wordOf_14 0 rfl rfl)
theorem dX14_wordOf_409 : decode cX14_wordOf 409 = .ok (.lreturn, 1) := dk_173 (dk_at dksX14_wordOf_14 3 rfl rfl)
theorem dX14_wordOf_410 : decode cX14_wordOf 410 = .ok (.bipush 110, 2) := dk_16 110 (dk_at dksX14_wordOf_14 4 rfl rfl)
theorem dX14_wordOf_412 : decode cX14_wordOf 412 = .ok (.bipush 111, 2) := dk_16 111 (dk_at dksX14_wordOf_14 6 rfl rfl)
theorem dX14_wordOf_414 : decode cX14_wordOf 414 = .ok (.bipush 116, 2) := dk_16 116 (dk_at dksX14_wordOf_14 8 rfl rfl)
theorem dX14_wordOf_416 : decode cX14_wordOf 416 = .ok (.iconst 0, 1) := dk_3 (dk_at dksX14_wordOf_14 10 rfl rfl)
theorem dX14_wordOf_417 : decode cX14_wordOf 417 = .ok (.iconst 0, 1) := dk_3 (dk_at dksX14_wordOf_14 11 rfl rfl)
theorem dX14_wordOf_418 : decode cX14_wordOf 418 = .ok (.invokestatic 198, 3) := dk_184 0 198 (dk_at dksX14_wordOf_14 12 rfl rfl)
theorem dX14_wordOf_421 : decode cX14_wordOf 421 = .ok (.lreturn, 1) := dk_173 (dk_at dksX14_wordOf_14 15 rfl rfl)
theorem dX14_wordOf_422 : decode cX14_wordOf 422 = .ok (.bipush 111, 2) := dk_16 111 (dk_at dksX14_wordOf_14 16 rfl rfl)
theorem dX14_wordOf_424 : decode cX14_wordOf 424 = .ok (.bipush 117, 2) := dk_16 117 (dk_at dksX14_wordOf_14 18 rfl rfl)
theorem dX14_wordOf_426 : decode cX14_wordOf 426 = .ok (.bipush 116, 2) := dk_16 116 (dk_at dksX14_wordOf_14 20 rfl rfl)
theorem dX14_wordOf_428 : decode cX14_wordOf 428 = .ok (.iconst 0, 1) := dk_3 (dk_at dksX14_wordOf_14 22 rfl rfl)
theorem dX14_wordOf_429 : decode cX14_wordOf 429 = .ok (.iconst 0, 1) := dk_3 (dk_at dksX14_wordOf_14 23 rfl rfl)
theorem dX14_wordOf_430 : decode cX14_wordOf 430 = .ok (.invokestatic 198, 3) := dk_184 0 198 (dk_at dksX14_wordOf_15 0 rfl rfl)
theorem dX14_wordOf_433 : decode cX14_wordOf 433 = .ok (.lreturn, 1) := dk_173 (dk_at dksX14_wordOf_15 3 rfl rfl)
theorem dX14_wordOf_434 : decode cX14_wordOf 434 = .ok (.bipush 109, 2) := dk_16 109 (dk_at dksX14_wordOf_15 4 rfl rfl)
theorem dX14_wordOf_436 : decode cX14_wordOf 436 = .ok (.bipush 105, 2) := dk_16 105 (dk_at dksX14_wordOf_15 6 rfl rfl)
theorem dX14_wordOf_438 : decode cX14_wordOf 438 = .ok (.bipush 110, 2) := dk_16 110 (dk_at dksX14_wordOf_15 8 rfl rfl)
theorem dX14_wordOf_440 : decode cX14_wordOf 440 = .ok (.bipush 117, 2) := dk_16 117 (dk_at dksX14_wordOf_15 10 rfl rfl)
theorem dX14_wordOf_442 : decode cX14_wordOf 442 = .ok (.bipush 116, 2) := dk_16 116 (dk_at dksX14_wordOf_15 12 rfl rfl)
theorem dX14_wordOf_444 : decode cX14_wordOf 444 = .ok (.invokestatic 198, 3) := dk_184 0 198 (dk_at dksX14_wordOf_15 14 rfl rfl)
theorem dX14_wordOf_447 : decode cX14_wordOf 447 = .ok (.bipush 101, 2) := dk_16 101 (dk_at dksX14_wordOf_15 17 rfl rfl)
theorem dX14_wordOf_449 : decode cX14_wordOf 449 = .ok (.invokestatic 202, 3) := dk_184 0 202 (dk_at dksX14_wordOf_15 19 rfl rfl)
theorem dX14_wordOf_452 : decode cX14_wordOf 452 = .ok (.lreturn, 1) := dk_173 (dk_at dksX14_wordOf_15 22 rfl rfl)
theorem dX14_wordOf_453 : decode cX14_wordOf 453 = .ok (.bipush 116, 2) := dk_16 116 (dk_at dksX14_wordOf_16 0 rfl rfl)
theorem dX14_wordOf_455 : decode cX14_wordOf 455 = .ok (.bipush 104, 2) := dk_16 104 (dk_at dksX14_wordOf_16 2 rfl rfl)
theorem dX14_wordOf_457 : decode cX14_wordOf 457 = .ok (.bipush 114, 2) := dk_16 114 (dk_at dksX14_wordOf_16 4 rfl rfl)
theorem dX14_wordOf_459 : decode cX14_wordOf 459 = .ok (.bipush 111, 2) := dk_16 111 (dk_at dksX14_wordOf_16 6 rfl rfl)
theorem dX14_wordOf_461 : decode cX14_wordOf 461 = .ok (.bipush 119, 2) := dk_16 119 (dk_at dksX14_wordOf_16 8 rfl rfl)
theorem dX14_wordOf_463 : decode cX14_wordOf 463 = .ok (.invokestatic 198, 3) := dk_184 0 198 (dk_at dksX14_wordOf_16 10 rfl rfl)
theorem dX14_wordOf_466 : decode cX14_wordOf 466 = .ok (.bipush 110, 2) := dk_16 110 (dk_at dksX14_wordOf_16 13 rfl rfl)
theorem dX14_wordOf_468 : decode cX14_wordOf 468 = .ok (.invokestatic 202, 3) := dk_184 0 202 (dk_at dksX14_wordOf_16 15 rfl rfl)
theorem dX14_wordOf_471 : decode cX14_wordOf 471 = .ok (.lreturn, 1) := dk_173 (dk_at dksX14_wordOf_16 18 rfl rfl)
theorem dX14_wordOf_472 : decode cX14_wordOf 472 = .ok (.bipush 108, 2) := dk_16 108 (dk_at dksX14_wordOf_16 19 rfl rfl)
theorem dX14_wordOf_474 : decode cX14_wordOf 474 = .ok (.bipush 111, 2) := dk_16 111 (dk_at dksX14_wordOf_16 21 rfl rfl)
theorem dX14_wordOf_476 : decode cX14_wordOf 476 = .ok (.bipush 115, 2) := dk_16 115 (dk_at dksX14_wordOf_17 0 rfl rfl)
theorem dX14_wordOf_478 : decode cX14_wordOf 478 = .ok (.bipush 116, 2) := dk_16 116 (dk_at dksX14_wordOf_17 2 rfl rfl)
theorem dX14_wordOf_480 : decode cX14_wordOf 480 = .ok (.iconst 0, 1) := dk_3 (dk_at dksX14_wordOf_17 4 rfl rfl)
theorem dX14_wordOf_481 : decode cX14_wordOf 481 = .ok (.invokestatic 198, 3) := dk_184 0 198 (dk_at dksX14_wordOf_17 5 rfl rfl)
theorem dX14_wordOf_484 : decode cX14_wordOf 484 = .ok (.lreturn, 1) := dk_173 (dk_at dksX14_wordOf_17 8 rfl rfl)
theorem dX14_wordOf_485 : decode cX14_wordOf 485 = .ok (.bipush 98, 2) := dk_16 98 (dk_at dksX14_wordOf_17 9 rfl rfl)
theorem dX14_wordOf_487 : decode cX14_wordOf 487 = .ok (.bipush 117, 2) := dk_16 117 (dk_at dksX14_wordOf_17 11 rfl rfl)
theorem dX14_wordOf_489 : decode cX14_wordOf 489 = .ok (.bipush 114, 2) := dk_16 114 (dk_at dksX14_wordOf_17 13 rfl rfl)
theorem dX14_wordOf_491 : decode cX14_wordOf 491 = .ok (.bipush 110, 2) := dk_16 110 (dk_at dksX14_wordOf_17 15 rfl rfl)
theorem dX14_wordOf_493 : decode cX14_wordOf 493 = .ok (.bipush 115, 2) := dk_16 115 (dk_at dksX14_wordOf_17 17 rfl rfl)
theorem dX14_wordOf_495 : decode cX14_wordOf 495 = .ok (.invokestatic 198, 3) := dk_184 0 198 (dk_at dksX14_wordOf_17 19 rfl rfl)
theorem dX14_wordOf_498 : decode cX14_wordOf 498 = .ok (.lreturn, 1) := dk_173 (dk_at dksX14_wordOf_17 22 rfl rfl)
theorem dX14_wordOf_499 : decode cX14_wordOf 499 = .ok (.bipush 119, 2) := dk_16 119 (dk_at dksX14_wordOf_18 0 rfl rfl)
theorem dX14_wordOf_501 : decode cX14_wordOf 501 = .ok (.bipush 97, 2) := dk_16 97 (dk_at dksX14_wordOf_18 2 rfl rfl)
theorem dX14_wordOf_503 : decode cX14_wordOf 503 = .ok (.bipush 116, 2) := dk_16 116 (dk_at dksX14_wordOf_18 4 rfl rfl)
theorem dX14_wordOf_505 : decode cX14_wordOf 505 = .ok (.bipush 101, 2) := dk_16 101 (dk_at dksX14_wordOf_18 6 rfl rfl)
theorem dX14_wordOf_507 : decode cX14_wordOf 507 = .ok (.bipush 114, 2) := dk_16 114 (dk_at dksX14_wordOf_18 8 rfl rfl)
theorem dX14_wordOf_509 : decode cX14_wordOf 509 = .ok (.invokestatic 198, 3) := dk_184 0 198 (dk_at dksX14_wordOf_18 10 rfl rfl)
theorem dX14_wordOf_512 : decode cX14_wordOf 512 = .ok (.lreturn, 1) := dk_173 (dk_at dksX14_wordOf_18 13 rfl rfl)
abbrev cX14_spelt : ByteArray := prog_23_method_15_code
def yX14_spelt : MethodName := ⟨RX14, "spelt", "(IIIII)J"⟩
def dkwX14_spelt_3 : List UInt8 := [97, 20, 0, 196, 101, 167, 0, 5, 22, 5, 173]
abbrev dktX14_spelt_3 : List UInt8 := dkwX14_spelt_3 ++ []
def dkwX14_spelt_2 : List UInt8 := [105, 29, 133, 97, 20, 0, 196, 101, 55, 5, 21, 4, 158, 0, 20, 20, 0, 194, 22, 5, 105, 21, 4, 133]
abbrev dktX14_spelt_2 : List UInt8 := dkwX14_spelt_2 ++ dktX14_spelt_3
def dkwX14_spelt_1 : List UInt8 := [20, 0, 194, 22, 5, 105, 28, 133, 97, 20, 0, 196, 101, 55, 5, 29, 158, 0, 18, 20, 0, 194, 22, 5]
abbrev dktX14_spelt_1 : List UInt8 := dkwX14_spelt_1 ++ dktX14_spelt_2
def dkwX14_spelt_0 : List UInt8 := [20, 0, 194, 26, 133, 20, 0, 196, 101, 105, 27, 133, 97, 20, 0, 196, 101, 55, 5, 28, 158, 0, 18]
abbrev dktX14_spelt_0 : List UInt8 := dkwX14_spelt_0 ++ dktX14_spelt_1
theorem dksX14_spelt_0 : cX14_spelt.data.toList.drop 0 = dktX14_spelt_0 := by decide +kernel
theorem dksX14_spelt_1 : cX14_spelt.data.toList.drop 23 = dktX14_spelt_1 := dk_seg dksX14_spelt_0 23 rfl rfl
theorem dksX14_spelt_2 : cX14_spelt.data.toList.drop 47 = dktX14_spelt_2 := dk_seg dksX14_spelt_1 24 rfl rfl
theorem dksX14_spelt_3 : cX14_spelt.data.toList.drop 71 = dktX14_spelt_3 := dk_seg dksX14_spelt_2 24 rfl rfl
theorem dX14_spelt_0 : decode cX14_spelt 0 = .ok (.ldc2_w 194, 3) := dk_20 0 194 (dk_at dksX14_spelt_0 0 rfl rfl)
theorem dX14_spelt_3 : decode cX14_spelt 3 = .ok (.iload_n 0, 1) := dk_26 (dk_at dksX14_spelt_0 3 rfl rfl)
theorem dX14_spelt_4 : decode cX14_spelt 4 = .ok (.i2l, 1) := dk_133 (dk_at dksX14_spelt_0 4 rfl rfl)
theorem dX14_spelt_5 : decode cX14_spelt 5 = .ok (.ldc2_w 196, 3) := dk_20 0 196 (dk_at dksX14_spelt_0 5 rfl rfl)
theorem dX14_spelt_8 : decode cX14_spelt 8 = .ok (.lsub, 1) := dk_101 (dk_at dksX14_spelt_0 8 rfl rfl)
theorem dX14_spelt_9 : decode cX14_spelt 9 = .ok (.lmul, 1) := dk_105 (dk_at dksX14_spelt_0 9 rfl rfl)
theorem dX14_spelt_10 : decode cX14_spelt 10 = .ok (.iload_n 1, 1) := dk_27 (dk_at dksX14_spelt_0 10 rfl rfl)
theorem dX14_spelt_11 : decode cX14_spelt 11 = .ok (.i2l, 1) := dk_133 (dk_at dksX14_spelt_0 11 rfl rfl)
theorem dX14_spelt_12 : decode cX14_spelt 12 = .ok (.ladd, 1) := dk_97 (dk_at dksX14_spelt_0 12 rfl rfl)
theorem dX14_spelt_13 : decode cX14_spelt 13 = .ok (.ldc2_w 196, 3) := dk_20 0 196 (dk_at dksX14_spelt_0 13 rfl rfl)
theorem dX14_spelt_16 : decode cX14_spelt 16 = .ok (.lsub, 1) := dk_101 (dk_at dksX14_spelt_0 16 rfl rfl)
theorem dX14_spelt_17 : decode cX14_spelt 17 = .ok (.lstore 5, 2) := dk_55 5 (dk_at dksX14_spelt_0 17 rfl rfl)
theorem dX14_spelt_19 : decode cX14_spelt 19 = .ok (.iload_n 2, 1) := dk_28 (dk_at dksX14_spelt_0 19 rfl rfl)
theorem dX14_spelt_20 : decode cX14_spelt 20 = .ok (.ifCond .le 18, 3) := dk_158 0 18 (dk_at dksX14_spelt_0 20 rfl rfl)
theorem dX14_spelt_23 : decode cX14_spelt 23 = .ok (.ldc2_w 194, 3) := dk_20 0 194 (dk_at dksX14_spelt_1 0 rfl rfl)
theorem dX14_spelt_26 : decode cX14_spelt 26 = .ok (.lload 5, 2) := dk_22 5 (dk_at dksX14_spelt_1 3 rfl rfl)
theorem dX14_spelt_28 : decode cX14_spelt 28 = .ok (.lmul, 1) := dk_105 (dk_at dksX14_spelt_1 5 rfl rfl)
theorem dX14_spelt_29 : decode cX14_spelt 29 = .ok (.iload_n 2, 1) := dk_28 (dk_at dksX14_spelt_1 6 rfl rfl)
theorem dX14_spelt_30 : decode cX14_spelt 30 = .ok (.i2l, 1) := dk_133 (dk_at dksX14_spelt_1 7 rfl rfl)
theorem dX14_spelt_31 : decode cX14_spelt 31 = .ok (.ladd, 1) := dk_97 (dk_at dksX14_spelt_1 8 rfl rfl)
theorem dX14_spelt_32 : decode cX14_spelt 32 = .ok (.ldc2_w 196, 3) := dk_20 0 196 (dk_at dksX14_spelt_1 9 rfl rfl)
theorem dX14_spelt_35 : decode cX14_spelt 35 = .ok (.lsub, 1) := dk_101 (dk_at dksX14_spelt_1 12 rfl rfl)
theorem dX14_spelt_36 : decode cX14_spelt 36 = .ok (.lstore 5, 2) := dk_55 5 (dk_at dksX14_spelt_1 13 rfl rfl)
theorem dX14_spelt_38 : decode cX14_spelt 38 = .ok (.iload_n 3, 1) := dk_29 (dk_at dksX14_spelt_1 15 rfl rfl)
theorem dX14_spelt_39 : decode cX14_spelt 39 = .ok (.ifCond .le 18, 3) := dk_158 0 18 (dk_at dksX14_spelt_1 16 rfl rfl)
theorem dX14_spelt_42 : decode cX14_spelt 42 = .ok (.ldc2_w 194, 3) := dk_20 0 194 (dk_at dksX14_spelt_1 19 rfl rfl)
theorem dX14_spelt_45 : decode cX14_spelt 45 = .ok (.lload 5, 2) := dk_22 5 (dk_at dksX14_spelt_1 22 rfl rfl)
theorem dX14_spelt_47 : decode cX14_spelt 47 = .ok (.lmul, 1) := dk_105 (dk_at dksX14_spelt_2 0 rfl rfl)
theorem dX14_spelt_48 : decode cX14_spelt 48 = .ok (.iload_n 3, 1) := dk_29 (dk_at dksX14_spelt_2 1 rfl rfl)
theorem dX14_spelt_49 : decode cX14_spelt 49 = .ok (.i2l, 1) := dk_133 (dk_at dksX14_spelt_2 2 rfl rfl)
theorem dX14_spelt_50 : decode cX14_spelt 50 = .ok (.ladd, 1) := dk_97 (dk_at dksX14_spelt_2 3 rfl rfl)
theorem dX14_spelt_51 : decode cX14_spelt 51 = .ok (.ldc2_w 196, 3) := dk_20 0 196 (dk_at dksX14_spelt_2 4 rfl rfl)
theorem dX14_spelt_54 : decode cX14_spelt 54 = .ok (.lsub, 1) := dk_101 (dk_at dksX14_spelt_2 7 rfl rfl)
theorem dX14_spelt_55 : decode cX14_spelt 55 = .ok (.lstore 5, 2) := dk_55 5 (dk_at dksX14_spelt_2 8 rfl rfl)
theorem dX14_spelt_57 : decode cX14_spelt 57 = .ok (.iload 4, 2) := dk_21 4 (dk_at dksX14_spelt_2 10 rfl rfl)
theorem dX14_spelt_59 : decode cX14_spelt 59 = .ok (.ifCond .le 20, 3) := dk_158 0 20 (dk_at dksX14_spelt_2 12 rfl rfl)
theorem dX14_spelt_62 : decode cX14_spelt 62 = .ok (.ldc2_w 194, 3) := dk_20 0 194 (dk_at dksX14_spelt_2 15 rfl rfl)
theorem dX14_spelt_65 : decode cX14_spelt 65 = .ok (.lload 5, 2) := dk_22 5 (dk_at dksX14_spelt_2 18 rfl rfl)
theorem dX14_spelt_67 : decode cX14_spelt 67 = .ok (.lmul, 1) := dk_105 (dk_at dksX14_spelt_2 20 rfl rfl)
theorem dX14_spelt_68 : decode cX14_spelt 68 = .ok (.iload 4, 2) := dk_21 4 (dk_at dksX14_spelt_2 21 rfl rfl)
theorem dX14_spelt_70 : decode cX14_spelt 70 = .ok (.i2l, 1) := dk_133 (dk_at dksX14_spelt_2 23 rfl rfl)
theorem dX14_spelt_71 : decode cX14_spelt 71 = .ok (.ladd, 1) := dk_97 (dk_at dksX14_spelt_3 0 rfl rfl)
theorem dX14_spelt_72 : decode cX14_spelt 72 = .ok (.ldc2_w 196, 3) := dk_20 0 196 (dk_at dksX14_spelt_3 1 rfl rfl)
theorem dX14_spelt_75 : decode cX14_spelt 75 = .ok (.lsub, 1) := dk_101 (dk_at dksX14_spelt_3 4 rfl rfl)
theorem dX14_spelt_76 : decode cX14_spelt 76 = .ok (.goto 5, 3) := dk_167 0 5 (dk_at dksX14_spelt_3 5 rfl rfl)
theorem dX14_spelt_79 : decode cX14_spelt 79 = .ok (.lload 5, 2) := dk_22 5 (dk_at dksX14_spelt_3 8 rfl rfl)
theorem dX14_spelt_81 : decode cX14_spelt 81 = .ok (.lreturn, 1) := dk_173 (dk_at dksX14_spelt_3 10 rfl rfl)
abbrev cX14_on : ByteArray := prog_23_method_16_code
def yX14_on : MethodName := ⟨RX14, "on", "(JI)J"⟩
def dkwX14_on_0 : List UInt8 := [20, 0, 194, 30, 105, 28, 133, 97, 20, 0, 196, 101, 173]
abbrev dktX14_on_0 : List UInt8 := dkwX14_on_0 ++ []
theorem dksX14_on_0 : cX14_on.data.toList.drop 0 = dktX14_on_0 := by decide +kernel
theorem dX14_on_0 : decode cX14_on 0 = .ok (.ldc2_w 194, 3) := dk_20 0 194 (dk_at dksX14_on_0 0 rfl rfl)
theorem dX14_on_3 : decode cX14_on 3 = .ok (.lload_n 0, 1) := dk_30 (dk_at dksX14_on_0 3 rfl rfl)
theorem dX14_on_4 : decode cX14_on 4 = .ok (.lmul, 1) := dk_105 (dk_at dksX14_on_0 4 rfl rfl)
theorem dX14_on_5 : decode cX14_on 5 = .ok (.iload_n 2, 1) := dk_28 (dk_at dksX14_on_0 5 rfl rfl)
theorem dX14_on_6 : decode cX14_on 6 = .ok (.i2l, 1) := dk_133 (dk_at dksX14_on_0 6 rfl rfl)
theorem dX14_on_7 : decode cX14_on 7 = .ok (.ladd, 1) := dk_97 (dk_at dksX14_on_0 7 rfl rfl)
theorem dX14_on_8 : decode cX14_on 8 = .ok (.ldc2_w 196, 3) := dk_20 0 196 (dk_at dksX14_on_0 8 rfl rfl)
theorem dX14_on_11 : decode cX14_on 11 = .ok (.lsub, 1) := dk_101 (dk_at dksX14_on_0 11 rfl rfl)
theorem dX14_on_12 : decode cX14_on 12 = .ok (.lreturn, 1) := dk_173 (dk_at dksX14_on_0 12 rfl rfl)
abbrev cX14_bad : ByteArray := prog_23_method_21_code
def yX14_bad : MethodName := ⟨RX14, "bad", "(I)Z"⟩
def dkwX14_bad_1 : List UInt8 := [181, 0, 213, 3, 172]
abbrev dktX14_bad_1 : List UInt8 := dkwX14_bad_1 ++ []
def dkwX14_bad_0 : List UInt8 := [42, 42, 180, 0, 170, 4, 160, 0, 7, 4, 167, 0, 4, 27, 181, 0, 210, 42, 42, 180, 0, 164]
abbrev dktX14_bad_0 : List UInt8 := dkwX14_bad_0 ++ dktX14_bad_1
theorem dksX14_bad_0 : cX14_bad.data.toList.drop 0 = dktX14_bad_0 := by decide +kernel
theorem dksX14_bad_1 : cX14_bad.data.toList.drop 22 = dktX14_bad_1 := dk_seg dksX14_bad_0 22 rfl rfl
theorem dX14_bad_0 : decode cX14_bad 0 = .ok (.aload_n 0, 1) := dk_42 (dk_at dksX14_bad_0 0 rfl rfl)
theorem dX14_bad_1 : decode cX14_bad 1 = .ok (.aload_n 0, 1) := dk_42 (dk_at dksX14_bad_0 1 rfl rfl)
theorem dX14_bad_2 : decode cX14_bad 2 = .ok (.getfield 170, 3) := dk_180 0 170 (dk_at dksX14_bad_0 2 rfl rfl)
theorem dX14_bad_5 : decode cX14_bad 5 = .ok (.iconst 1, 1) := dk_4 (dk_at dksX14_bad_0 5 rfl rfl)
theorem dX14_bad_6 : decode cX14_bad 6 = .ok (.if_icmp .ne 7, 3) := dk_160 0 7 (dk_at dksX14_bad_0 6 rfl rfl)
theorem dX14_bad_9 : decode cX14_bad 9 = .ok (.iconst 1, 1) := dk_4 (dk_at dksX14_bad_0 9 rfl rfl)
theorem dX14_bad_10 : decode cX14_bad 10 = .ok (.goto 4, 3) := dk_167 0 4 (dk_at dksX14_bad_0 10 rfl rfl)
theorem dX14_bad_13 : decode cX14_bad 13 = .ok (.iload_n 1, 1) := dk_27 (dk_at dksX14_bad_0 13 rfl rfl)
theorem dX14_bad_14 : decode cX14_bad 14 = .ok (.putfield 210, 3) := dk_181 0 210 (dk_at dksX14_bad_0 14 rfl rfl)
theorem dX14_bad_17 : decode cX14_bad 17 = .ok (.aload_n 0, 1) := dk_42 (dk_at dksX14_bad_0 17 rfl rfl)
theorem dX14_bad_18 : decode cX14_bad 18 = .ok (.aload_n 0, 1) := dk_42 (dk_at dksX14_bad_0 18 rfl rfl)
theorem dX14_bad_19 : decode cX14_bad 19 = .ok (.getfield 164, 3) := dk_180 0 164 (dk_at dksX14_bad_0 19 rfl rfl)
theorem dX14_bad_22 : decode cX14_bad 22 = .ok (.putfield 213, 3) := dk_181 0 213 (dk_at dksX14_bad_1 0 rfl rfl)
theorem dX14_bad_25 : decode cX14_bad 25 = .ok (.iconst 0, 1) := dk_3 (dk_at dksX14_bad_1 3 rfl rfl)
theorem dX14_bad_26 : decode cX14_bad 26 = .ok (.ireturn, 1) := dk_172 (dk_at dksX14_bad_1 4 rfl rfl)
abbrev cX14_readMan : ByteArray := prog_23_method_31_code
def yX14_readMan : MethodName := ⟨RX14, "readMan", "()Z"⟩
def dkwX14_readMan_6 : List UInt8 := [4, 96, 79, 4, 172]
abbrev dktX14_readMan_6 : List UInt8 := dkwX14_readMan_6 ++ []
def dkwX14_readMan_5 : List UInt8 := [6, 27, 104, 96, 28, 96, 42, 180, 0, 223, 79, 132, 2, 1, 167, 255, 209, 42, 180, 0, 16, 3, 92, 46]
abbrev dktX14_readMan_5 : List UInt8 := dkwX14_readMan_5 ++ dktX14_readMan_6
def dkwX14_readMan_4 : List UInt8 := [160, 0, 8, 16, 99, 167, 0, 5, 16, 9, 182, 0, 251, 154, 0, 5, 3, 172, 42, 180, 0, 16, 16, 20]
abbrev dktX14_readMan_4 : List UInt8 := dkwX14_readMan_4 ++ dktX14_readMan_5
def dkwX14_readMan_3 : List UInt8 := [180, 0, 29, 27, 42, 180, 0, 183, 80, 42, 182, 0, 226, 3, 61, 28, 5, 163, 0, 48, 42, 4, 28, 5]
abbrev dktX14_readMan_3 : List UInt8 := dkwX14_readMan_3 ++ dktX14_readMan_4
def dkwX14_readMan_2 : List UInt8 := [47, 42, 180, 0, 183, 148, 154, 0, 9, 42, 6, 182, 0, 216, 172, 132, 2, 1, 167, 255, 228, 42]
abbrev dktX14_readMan_2 : List UInt8 := dkwX14_readMan_2 ++ dktX14_readMan_3
def dkwX14_readMan_1 : List UInt8 := [182, 0, 247, 154, 0, 9, 42, 4, 182, 0, 216, 172, 3, 61, 28, 27, 162, 0, 29, 42, 180, 0, 29, 28]
abbrev dktX14_readMan_1 : List UInt8 := dkwX14_readMan_1 ++ dktX14_readMan_2
def dkwX14_readMan_0 : List UInt8 := [42, 180, 0, 16, 3, 46, 60, 27, 16, 12, 160, 0, 9, 42, 7, 182, 0, 216, 172, 42, 182, 0, 226, 42]
abbrev dktX14_readMan_0 : List UInt8 := dkwX14_readMan_0 ++ dktX14_readMan_1
theorem dksX14_readMan_0 : cX14_readMan.data.toList.drop 0 = dktX14_readMan_0 := by decide +kernel
theorem dksX14_readMan_1 : cX14_readMan.data.toList.drop 24 = dktX14_readMan_1 := dk_seg dksX14_readMan_0 24 rfl rfl
theorem dksX14_readMan_2 : cX14_readMan.data.toList.drop 48 = dktX14_readMan_2 := dk_seg dksX14_readMan_1 24 rfl rfl
theorem dksX14_readMan_3 : cX14_readMan.data.toList.drop 70 = dktX14_readMan_3 := dk_seg dksX14_readMan_2 22 rfl rfl
theorem dksX14_readMan_4 : cX14_readMan.data.toList.drop 94 = dktX14_readMan_4 := dk_seg dksX14_readMan_3 24 rfl rfl
theorem dksX14_readMan_5 : cX14_readMan.data.toList.drop 118 = dktX14_readMan_5 := dk_seg dksX14_readMan_4 24 rfl rfl
theorem dksX14_readMan_6 : cX14_readMan.data.toList.drop 142 = dktX14_readMan_6 := dk_seg dksX14_readMan_5 24 rfl rfl
theorem dX14_readMan_0 : decode cX14_readMan 0 = .ok (.aload_n 0, 1) := dk_42 (dk_at dksX14_readMan_0 0 rfl rfl)
theorem dX14_readMan_1 : decode cX14_readMan 1 = .ok (.getfield 16, 3) := dk_180 0 16 (dk_at dksX14_readMan_0 1 rfl rfl)
theorem dX14_readMan_4 : decode cX14_readMan 4 = .ok (.iconst 0, 1) := dk_3 (dk_at dksX14_readMan_0 4 rfl rfl)
theorem dX14_readMan_5 : decode cX14_readMan 5 = .ok (.iaload, 1) := dk_46 (dk_at dksX14_readMan_0 5 rfl rfl)
theorem dX14_readMan_6 : decode cX14_readMan 6 = .ok (.istore_n 1, 1) := dk_60 (dk_at dksX14_readMan_0 6 rfl rfl)
theorem dX14_readMan_7 : decode cX14_readMan 7 = .ok (.iload_n 1, 1) := dk_27 (dk_at dksX14_readMan_0 7 rfl rfl)
theorem dX14_readMan_8 : decode cX14_readMan 8 = .ok (.bipush 12, 2) := dk_16 12 (dk_at dksX14_readMan_0 8 rfl rfl)
theorem dX14_readMan_10 : decode cX14_readMan 10 = .ok (.if_icmp .ne 9, 3) := dk_160 0 9 (dk_at dksX14_readMan_0 10 rfl rfl)
theorem dX14_readMan_13 : decode cX14_readMan 13 = .ok (.aload_n 0, 1) := dk_42 (dk_at dksX14_readMan_0 13 rfl rfl)
theorem dX14_readMan_14 : decode cX14_readMan 14 = .ok (.iconst 4, 1) := dk_7 (dk_at dksX14_readMan_0 14 rfl rfl)
theorem dX14_readMan_15 : decode cX14_readMan 15 = .ok (.invokevirtual 216, 3) := dk_182 0 216 (dk_at dksX14_readMan_0 15 rfl rfl)
theorem dX14_readMan_18 : decode cX14_readMan 18 = .ok (.ireturn, 1) := dk_172 (dk_at dksX14_readMan_0 18 rfl rfl)
theorem dX14_readMan_19 : decode cX14_readMan 19 = .ok (.aload_n 0, 1) := dk_42 (dk_at dksX14_readMan_0 19 rfl rfl)
theorem dX14_readMan_20 : decode cX14_readMan 20 = .ok (.invokevirtual 226, 3) := dk_182 0 226 (dk_at dksX14_readMan_0 20 rfl rfl)
theorem dX14_readMan_23 : decode cX14_readMan 23 = .ok (.aload_n 0, 1) := dk_42 (dk_at dksX14_readMan_0 23 rfl rfl)
theorem dX14_readMan_24 : decode cX14_readMan 24 = .ok (.invokevirtual 247, 3) := dk_182 0 247 (dk_at dksX14_readMan_1 0 rfl rfl)
theorem dX14_readMan_27 : decode cX14_readMan 27 = .ok (.ifCond .ne 9, 3) := dk_154 0 9 (dk_at dksX14_readMan_1 3 rfl rfl)
theorem dX14_readMan_30 : decode cX14_readMan 30 = .ok (.aload_n 0, 1) := dk_42 (dk_at dksX14_readMan_1 6 rfl rfl)
theorem dX14_readMan_31 : decode cX14_readMan 31 = .ok (.iconst 1, 1) := dk_4 (dk_at dksX14_readMan_1 7 rfl rfl)
theorem dX14_readMan_32 : decode cX14_readMan 32 = .ok (.invokevirtual 216, 3) := dk_182 0 216 (dk_at dksX14_readMan_1 8 rfl rfl)
theorem dX14_readMan_35 : decode cX14_readMan 35 = .ok (.ireturn, 1) := dk_172 (dk_at dksX14_readMan_1 11 rfl rfl)
theorem dX14_readMan_36 : decode cX14_readMan 36 = .ok (.iconst 0, 1) := dk_3 (dk_at dksX14_readMan_1 12 rfl rfl)
theorem dX14_readMan_37 : decode cX14_readMan 37 = .ok (.istore_n 2, 1) := dk_61 (dk_at dksX14_readMan_1 13 rfl rfl)
theorem dX14_readMan_38 : decode cX14_readMan 38 = .ok (.iload_n 2, 1) := dk_28 (dk_at dksX14_readMan_1 14 rfl rfl)
theorem dX14_readMan_39 : decode cX14_readMan 39 = .ok (.iload_n 1, 1) := dk_27 (dk_at dksX14_readMan_1 15 rfl rfl)
theorem dX14_readMan_40 : decode cX14_readMan 40 = .ok (.if_icmp .ge 29, 3) := dk_162 0 29 (dk_at dksX14_readMan_1 16 rfl rfl)
theorem dX14_readMan_43 : decode cX14_readMan 43 = .ok (.aload_n 0, 1) := dk_42 (dk_at dksX14_readMan_1 19 rfl rfl)
theorem dX14_readMan_44 : decode cX14_readMan 44 = .ok (.getfield 29, 3) := dk_180 0 29 (dk_at dksX14_readMan_1 20 rfl rfl)
theorem dX14_readMan_47 : decode cX14_readMan 47 = .ok (.iload_n 2, 1) := dk_28 (dk_at dksX14_readMan_1 23 rfl rfl)
theorem dX14_readMan_48 : decode cX14_readMan 48 = .ok (.laload, 1) := dk_47 (dk_at dksX14_readMan_2 0 rfl rfl)
theorem dX14_readMan_49 : decode cX14_readMan 49 = .ok (.aload_n 0, 1) := dk_42 (dk_at dksX14_readMan_2 1 rfl rfl)
theorem dX14_readMan_50 : decode cX14_readMan 50 = .ok (.getfield 183, 3) := dk_180 0 183 (dk_at dksX14_readMan_2 2 rfl rfl)
theorem dX14_readMan_53 : decode cX14_readMan 53 = .ok (.lcmp, 1) := dk_148 (dk_at dksX14_readMan_2 5 rfl rfl)
theorem dX14_readMan_54 : decode cX14_readMan 54 = .ok (.ifCond .ne 9, 3) := dk_154 0 9 (dk_at dksX14_readMan_2 6 rfl rfl)
theorem dX14_readMan_57 : decode cX14_readMan 57 = .ok (.aload_n 0, 1) := dk_42 (dk_at dksX14_readMan_2 9 rfl rfl)
theorem dX14_readMan_58 : decode cX14_readMan 58 = .ok (.iconst 3, 1) := dk_6 (dk_at dksX14_readMan_2 10 rfl rfl)
theorem dX14_readMan_59 : decode cX14_readMan 59 = .ok (.invokevirtual 216, 3) := dk_182 0 216 (dk_at dksX14_readMan_2 11 rfl rfl)
theorem dX14_readMan_62 : decode cX14_readMan 62 = .ok (.ireturn, 1) := dk_172 (dk_at dksX14_readMan_2 14 rfl rfl)
theorem dX14_readMan_63 : decode cX14_readMan 63 = .ok (.iinc 2 1, 3) := dk_132 2 1 (dk_at dksX14_readMan_2 15 rfl rfl)
theorem dX14_readMan_66 : decode cX14_readMan 66 = .ok (.goto (-28), 3) := dk_167 255 228 (dk_at dksX14_readMan_2 18 rfl rfl)
theorem dX14_readMan_69 : decode cX14_readMan 69 = .ok (.aload_n 0, 1) := dk_42 (dk_at dksX14_readMan_2 21 rfl rfl)
theorem dX14_readMan_70 : decode cX14_readMan 70 = .ok (.getfield 29, 3) := dk_180 0 29 (dk_at dksX14_readMan_3 0 rfl rfl)
theorem dX14_readMan_73 : decode cX14_readMan 73 = .ok (.iload_n 1, 1) := dk_27 (dk_at dksX14_readMan_3 3 rfl rfl)
theorem dX14_readMan_74 : decode cX14_readMan 74 = .ok (.aload_n 0, 1) := dk_42 (dk_at dksX14_readMan_3 4 rfl rfl)
theorem dX14_readMan_75 : decode cX14_readMan 75 = .ok (.getfield 183, 3) := dk_180 0 183 (dk_at dksX14_readMan_3 5 rfl rfl)
theorem dX14_readMan_78 : decode cX14_readMan 78 = .ok (.lastore, 1) := dk_80 (dk_at dksX14_readMan_3 8 rfl rfl)
theorem dX14_readMan_79 : decode cX14_readMan 79 = .ok (.aload_n 0, 1) := dk_42 (dk_at dksX14_readMan_3 9 rfl rfl)
theorem dX14_readMan_80 : decode cX14_readMan 80 = .ok (.invokevirtual 226, 3) := dk_182 0 226 (dk_at dksX14_readMan_3 10 rfl rfl)
theorem dX14_readMan_83 : decode cX14_readMan 83 = .ok (.iconst 0, 1) := dk_3 (dk_at dksX14_readMan_3 13 rfl rfl)
theorem dX14_readMan_84 : decode cX14_readMan 84 = .ok (.istore_n 2, 1) := dk_61 (dk_at dksX14_readMan_3 14 rfl rfl)
theorem dX14_readMan_85 : decode cX14_readMan 85 = .ok (.iload_n 2, 1) := dk_28 (dk_at dksX14_readMan_3 15 rfl rfl)
theorem dX14_readMan_86 : decode cX14_readMan 86 = .ok (.iconst 2, 1) := dk_5 (dk_at dksX14_readMan_3 16 rfl rfl)
theorem dX14_readMan_87 : decode cX14_readMan 87 = .ok (.if_icmp .gt 48, 3) := dk_163 0 48 (dk_at dksX14_readMan_3 17 rfl rfl)
theorem dX14_readMan_90 : decode cX14_readMan 90 = .ok (.aload_n 0, 1) := dk_42 (dk_at dksX14_readMan_3 20 rfl rfl)
theorem dX14_readMan_91 : decode cX14_readMan 91 = .ok (.iconst 1, 1) := dk_4 (dk_at dksX14_readMan_3 21 rfl rfl)
theorem dX14_readMan_92 : decode cX14_readMan 92 = .ok (.iload_n 2, 1) := dk_28 (dk_at dksX14_readMan_3 22 rfl rfl)
theorem dX14_readMan_93 : decode cX14_readMan 93 = .ok (.iconst 2, 1) := dk_5 (dk_at dksX14_readMan_3 23 rfl rfl)
theorem dX14_readMan_94 : decode cX14_readMan 94 = .ok (.if_icmp .ne 8, 3) := dk_160 0 8 (dk_at dksX14_readMan_4 0 rfl rfl)
theorem dX14_readMan_97 : decode cX14_readMan 97 = .ok (.bipush 99, 2) := dk_16 99 (dk_at dksX14_readMan_4 3 rfl rfl)
theorem dX14_readMan_99 : decode cX14_readMan 99 = .ok (.goto 5, 3) := dk_167 0 5 (dk_at dksX14_readMan_4 5 rfl rfl)
theorem dX14_readMan_102 : decode cX14_readMan 102 = .ok (.bipush 9, 2) := dk_16 9 (dk_at dksX14_readMan_4 8 rfl rfl)
theorem dX14_readMan_104 : decode cX14_readMan 104 = .ok (.invokevirtual 251, 3) := dk_182 0 251 (dk_at dksX14_readMan_4 10 rfl rfl)
theorem dX14_readMan_107 : decode cX14_readMan 107 = .ok (.ifCond .ne 5, 3) := dk_154 0 5 (dk_at dksX14_readMan_4 13 rfl rfl)
theorem dX14_readMan_110 : decode cX14_readMan 110 = .ok (.iconst 0, 1) := dk_3 (dk_at dksX14_readMan_4 16 rfl rfl)
theorem dX14_readMan_111 : decode cX14_readMan 111 = .ok (.ireturn, 1) := dk_172 (dk_at dksX14_readMan_4 17 rfl rfl)
theorem dX14_readMan_112 : decode cX14_readMan 112 = .ok (.aload_n 0, 1) := dk_42 (dk_at dksX14_readMan_4 18 rfl rfl)
theorem dX14_readMan_113 : decode cX14_readMan 113 = .ok (.getfield 16, 3) := dk_180 0 16 (dk_at dksX14_readMan_4 19 rfl rfl)
theorem dX14_readMan_116 : decode cX14_readMan 116 = .ok (.bipush 20, 2) := dk_16 20 (dk_at dksX14_readMan_4 22 rfl rfl)
theorem dX14_readMan_118 : decode cX14_readMan 118 = .ok (.iconst 3, 1) := dk_6 (dk_at dksX14_readMan_5 0 rfl rfl)
theorem dX14_readMan_119 : decode cX14_readMan 119 = .ok (.iload_n 1, 1) := dk_27 (dk_at dksX14_readMan_5 1 rfl rfl)
theorem dX14_readMan_120 : decode cX14_readMan 120 = .ok (.imul, 1) := dk_104 (dk_at dksX14_readMan_5 2 rfl rfl)
theorem dX14_readMan_121 : decode cX14_readMan 121 = .ok (.iadd, 1) := dk_96 (dk_at dksX14_readMan_5 3 rfl rfl)
theorem dX14_readMan_122 : decode cX14_readMan 122 = .ok (.iload_n 2, 1) := dk_28 (dk_at dksX14_readMan_5 4 rfl rfl)
theorem dX14_readMan_123 : decode cX14_readMan 123 = .ok (.iadd, 1) := dk_96 (dk_at dksX14_readMan_5 5 rfl rfl)
theorem dX14_readMan_124 : decode cX14_readMan 124 = .ok (.aload_n 0, 1) := dk_42 (dk_at dksX14_readMan_5 6 rfl rfl)
theorem dX14_readMan_125 : decode cX14_readMan 125 = .ok (.getfield 223, 3) := dk_180 0 223 (dk_at dksX14_readMan_5 7 rfl rfl)
theorem dX14_readMan_128 : decode cX14_readMan 128 = .ok (.iastore, 1) := dk_79 (dk_at dksX14_readMan_5 10 rfl rfl)
theorem dX14_readMan_129 : decode cX14_readMan 129 = .ok (.iinc 2 1, 3) := dk_132 2 1 (dk_at dksX14_readMan_5 11 rfl rfl)
theorem dX14_readMan_132 : decode cX14_readMan 132 = .ok (.goto (-47), 3) := dk_167 255 209 (dk_at dksX14_readMan_5 14 rfl rfl)
theorem dX14_readMan_135 : decode cX14_readMan 135 = .ok (.aload_n 0, 1) := dk_42 (dk_at dksX14_readMan_5 17 rfl rfl)
theorem dX14_readMan_136 : decode cX14_readMan 136 = .ok (.getfield 16, 3) := dk_180 0 16 (dk_at dksX14_readMan_5 18 rfl rfl)
theorem dX14_readMan_139 : decode cX14_readMan 139 = .ok (.iconst 0, 1) := dk_3 (dk_at dksX14_readMan_5 21 rfl rfl)
theorem dX14_readMan_140 : decode cX14_readMan 140 = .ok (.dup2, 1) := dk_92 (dk_at dksX14_readMan_5 22 rfl rfl)
theorem dX14_readMan_141 : decode cX14_readMan 141 = .ok (.iaload, 1) := dk_46 (dk_at dksX14_readMan_5 23 rfl rfl)
theorem dX14_readMan_142 : decode cX14_readMan 142 = .ok (.iconst 1, 1) := dk_4 (dk_at dksX14_readMan_6 0 rfl rfl)
theorem dX14_readMan_143 : decode cX14_readMan 143 = .ok (.iadd, 1) := dk_96 (dk_at dksX14_readMan_6 1 rfl rfl)
theorem dX14_readMan_144 : decode cX14_readMan 144 = .ok (.iastore, 1) := dk_79 (dk_at dksX14_readMan_6 2 rfl rfl)
theorem dX14_readMan_145 : decode cX14_readMan 145 = .ok (.iconst 1, 1) := dk_4 (dk_at dksX14_readMan_6 3 rfl rfl)
theorem dX14_readMan_146 : decode cX14_readMan 146 = .ok (.ireturn, 1) := dk_172 (dk_at dksX14_readMan_6 4 rfl rfl)
abbrev cX14_isName : ByteArray := prog_23_method_20_code
def yX14_isName : MethodName := ⟨RX14, "isName", "()Z"⟩
def dkwX14_isName_1 : List UInt8 := [184, 0, 206, 148, 154, 0, 5, 3, 172, 132, 1, 1, 167, 255, 233, 4, 172]
abbrev dktX14_isName_1 : List UInt8 := dkwX14_isName_1 ++ []
def dkwX14_isName_0 : List UInt8 := [42, 180, 0, 170, 5, 159, 0, 5, 3, 172, 3, 60, 27, 16, 28, 163, 0, 23, 42, 180, 0, 183, 27]
abbrev dktX14_isName_0 : List UInt8 := dkwX14_isName_0 ++ dktX14_isName_1
theorem dksX14_isName_0 : cX14_isName.data.toList.drop 0 = dktX14_isName_0 := by decide +kernel
theorem dksX14_isName_1 : cX14_isName.data.toList.drop 23 = dktX14_isName_1 := dk_seg dksX14_isName_0 23 rfl rfl
theorem dX14_isName_0 : decode cX14_isName 0 = .ok (.aload_n 0, 1) := dk_42 (dk_at dksX14_isName_0 0 rfl rfl)
theorem dX14_isName_1 : decode cX14_isName 1 = .ok (.getfield 170, 3) := dk_180 0 170 (dk_at dksX14_isName_0 1 rfl rfl)
theorem dX14_isName_4 : decode cX14_isName 4 = .ok (.iconst 2, 1) := dk_5 (dk_at dksX14_isName_0 4 rfl rfl)
theorem dX14_isName_5 : decode cX14_isName 5 = .ok (.if_icmp .eq 5, 3) := dk_159 0 5 (dk_at dksX14_isName_0 5 rfl rfl)
theorem dX14_isName_8 : decode cX14_isName 8 = .ok (.iconst 0, 1) := dk_3 (dk_at dksX14_isName_0 8 rfl rfl)
theorem dX14_isName_9 : decode cX14_isName 9 = .ok (.ireturn, 1) := dk_172 (dk_at dksX14_isName_0 9 rfl rfl)
theorem dX14_isName_10 : decode cX14_isName 10 = .ok (.iconst 0, 1) := dk_3 (dk_at dksX14_isName_0 10 rfl rfl)
theorem dX14_isName_11 : decode cX14_isName 11 = .ok (.istore_n 1, 1) := dk_60 (dk_at dksX14_isName_0 11 rfl rfl)
theorem dX14_isName_12 : decode cX14_isName 12 = .ok (.iload_n 1, 1) := dk_27 (dk_at dksX14_isName_0 12 rfl rfl)
theorem dX14_isName_13 : decode cX14_isName 13 = .ok (.bipush 28, 2) := dk_16 28 (dk_at dksX14_isName_0 13 rfl rfl)
theorem dX14_isName_15 : decode cX14_isName 15 = .ok (.if_icmp .gt 23, 3) := dk_163 0 23 (dk_at dksX14_isName_0 15 rfl rfl)
theorem dX14_isName_18 : decode cX14_isName 18 = .ok (.aload_n 0, 1) := dk_42 (dk_at dksX14_isName_0 18 rfl rfl)
theorem dX14_isName_19 : decode cX14_isName 19 = .ok (.getfield 183, 3) := dk_180 0 183 (dk_at dksX14_isName_0 19 rfl rfl)
theorem dX14_isName_22 : decode cX14_isName 22 = .ok (.iload_n 1, 1) := dk_27 (dk_at dksX14_isName_0 22 rfl rfl)
theorem dX14_isName_23 : decode cX14_isName 23 = .ok (.invokestatic 206, 3) := dk_184 0 206 (dk_at dksX14_isName_1 0 rfl rfl)
theorem dX14_isName_26 : decode cX14_isName 26 = .ok (.lcmp, 1) := dk_148 (dk_at dksX14_isName_1 3 rfl rfl)
theorem dX14_isName_27 : decode cX14_isName 27 = .ok (.ifCond .ne 5, 3) := dk_154 0 5 (dk_at dksX14_isName_1 4 rfl rfl)
theorem dX14_isName_30 : decode cX14_isName 30 = .ok (.iconst 0, 1) := dk_3 (dk_at dksX14_isName_1 7 rfl rfl)
theorem dX14_isName_31 : decode cX14_isName 31 = .ok (.ireturn, 1) := dk_172 (dk_at dksX14_isName_1 8 rfl rfl)
theorem dX14_isName_32 : decode cX14_isName 32 = .ok (.iinc 1 1, 3) := dk_132 1 1 (dk_at dksX14_isName_1 9 rfl rfl)
theorem dX14_isName_35 : decode cX14_isName 35 = .ok (.goto (-23), 3) := dk_167 255 233 (dk_at dksX14_isName_1 12 rfl rfl)
theorem dX14_isName_38 : decode cX14_isName 38 = .ok (.iconst 1, 1) := dk_4 (dk_at dksX14_isName_1 15 rfl rfl)
theorem dX14_isName_39 : decode cX14_isName 39 = .ok (.ireturn, 1) := dk_172 (dk_at dksX14_isName_1 16 rfl rfl)
abbrev cX14_readNumber : ByteArray := prog_23_method_22_code
def yX14_readNumber : MethodName := ⟨RX14, "readNumber", "(II)Z"⟩
def dkwX14_readNumber_1 : List UInt8 := [154, 0, 9, 42, 5, 182, 0, 216, 172, 42, 42, 180, 0, 187, 181, 0, 223, 42, 182, 0, 226, 4, 172]
abbrev dktX14_readNumber_1 : List UInt8 := dkwX14_readNumber_1 ++ []
def dkwX14_readNumber_0 : List UInt8 := [42, 180, 0, 170, 6, 159, 0, 9, 42, 4, 182, 0, 216, 172, 42, 180, 0, 187, 27, 28, 184, 0, 219]
abbrev dktX14_readNumber_0 : List UInt8 := dkwX14_readNumber_0 ++ dktX14_readNumber_1
theorem dksX14_readNumber_0 : cX14_readNumber.data.toList.drop 0 = dktX14_readNumber_0 := by decide +kernel
theorem dksX14_readNumber_1 : cX14_readNumber.data.toList.drop 23 = dktX14_readNumber_1 := dk_seg dksX14_readNumber_0 23 rfl rfl
theorem dX14_readNumber_0 : decode cX14_readNumber 0 = .ok (.aload_n 0, 1) := dk_42 (dk_at dksX14_readNumber_0 0 rfl rfl)
theorem dX14_readNumber_1 : decode cX14_readNumber 1 = .ok (.getfield 170, 3) := dk_180 0 170 (dk_at dksX14_readNumber_0 1 rfl rfl)
theorem dX14_readNumber_4 : decode cX14_readNumber 4 = .ok (.iconst 3, 1) := dk_6 (dk_at dksX14_readNumber_0 4 rfl rfl)
theorem dX14_readNumber_5 : decode cX14_readNumber 5 = .ok (.if_icmp .eq 9, 3) := dk_159 0 9 (dk_at dksX14_readNumber_0 5 rfl rfl)
theorem dX14_readNumber_8 : decode cX14_readNumber 8 = .ok (.aload_n 0, 1) := dk_42 (dk_at dksX14_readNumber_0 8 rfl rfl)
theorem dX14_readNumber_9 : decode cX14_readNumber 9 = .ok (.iconst 1, 1) := dk_4 (dk_at dksX14_readNumber_0 9 rfl rfl)
theorem dX14_readNumber_10 : decode cX14_readNumber 10 = .ok (.invokevirtual 216, 3) := dk_182 0 216 (dk_at dksX14_readNumber_0 10 rfl rfl)
theorem dX14_readNumber_13 : decode cX14_readNumber 13 = .ok (.ireturn, 1) := dk_172 (dk_at dksX14_readNumber_0 13 rfl rfl)
theorem dX14_readNumber_14 : decode cX14_readNumber 14 = .ok (.aload_n 0, 1) := dk_42 (dk_at dksX14_readNumber_0 14 rfl rfl)
theorem dX14_readNumber_15 : decode cX14_readNumber 15 = .ok (.getfield 187, 3) := dk_180 0 187 (dk_at dksX14_readNumber_0 15 rfl rfl)
theorem dX14_readNumber_18 : decode cX14_readNumber 18 = .ok (.iload_n 1, 1) := dk_27 (dk_at dksX14_readNumber_0 18 rfl rfl)
theorem dX14_readNumber_19 : decode cX14_readNumber 19 = .ok (.iload_n 2, 1) := dk_28 (dk_at dksX14_readNumber_0 19 rfl rfl)
theorem dX14_readNumber_20 : decode cX14_readNumber 20 = .ok (.invokestatic 219, 3) := dk_184 0 219 (dk_at dksX14_readNumber_0 20 rfl rfl)
theorem dX14_readNumber_23 : decode cX14_readNumber 23 = .ok (.ifCond .ne 9, 3) := dk_154 0 9 (dk_at dksX14_readNumber_1 0 rfl rfl)
theorem dX14_readNumber_26 : decode cX14_readNumber 26 = .ok (.aload_n 0, 1) := dk_42 (dk_at dksX14_readNumber_1 3 rfl rfl)
theorem dX14_readNumber_27 : decode cX14_readNumber 27 = .ok (.iconst 2, 1) := dk_5 (dk_at dksX14_readNumber_1 4 rfl rfl)
theorem dX14_readNumber_28 : decode cX14_readNumber 28 = .ok (.invokevirtual 216, 3) := dk_182 0 216 (dk_at dksX14_readNumber_1 5 rfl rfl)
theorem dX14_readNumber_31 : decode cX14_readNumber 31 = .ok (.ireturn, 1) := dk_172 (dk_at dksX14_readNumber_1 8 rfl rfl)
theorem dX14_readNumber_32 : decode cX14_readNumber 32 = .ok (.aload_n 0, 1) := dk_42 (dk_at dksX14_readNumber_1 9 rfl rfl)
theorem dX14_readNumber_33 : decode cX14_readNumber 33 = .ok (.aload_n 0, 1) := dk_42 (dk_at dksX14_readNumber_1 10 rfl rfl)
theorem dX14_readNumber_34 : decode cX14_readNumber 34 = .ok (.getfield 187, 3) := dk_180 0 187 (dk_at dksX14_readNumber_1 11 rfl rfl)
theorem dX14_readNumber_37 : decode cX14_readNumber 37 = .ok (.putfield 223, 3) := dk_181 0 223 (dk_at dksX14_readNumber_1 14 rfl rfl)
theorem dX14_readNumber_40 : decode cX14_readNumber 40 = .ok (.aload_n 0, 1) := dk_42 (dk_at dksX14_readNumber_1 17 rfl rfl)
theorem dX14_readNumber_41 : decode cX14_readNumber 41 = .ok (.invokevirtual 226, 3) := dk_182 0 226 (dk_at dksX14_readNumber_1 18 rfl rfl)
theorem dX14_readNumber_44 : decode cX14_readNumber 44 = .ok (.iconst 1, 1) := dk_4 (dk_at dksX14_readNumber_1 21 rfl rfl)
theorem dX14_readNumber_45 : decode cX14_readNumber 45 = .ok (.ireturn, 1) := dk_172 (dk_at dksX14_readNumber_1 22 rfl rfl)
abbrev cX14_isIn : ByteArray := prog_23_method_8_code
def yX14_isIn : MethodName := ⟨RX14, "isIn", "(III)Z"⟩
def dkwX14_isIn_0 : List UInt8 := [26, 27, 161, 0, 12, 26, 28, 163, 0, 7, 4, 167, 0, 4, 3, 172]
abbrev dktX14_isIn_0 : List UInt8 := dkwX14_isIn_0 ++ []
theorem dksX14_isIn_0 : cX14_isIn.data.toList.drop 0 = dktX14_isIn_0 := by decide +kernel
theorem dX14_isIn_0 : decode cX14_isIn 0 = .ok (.iload_n 0, 1) := dk_26 (dk_at dksX14_isIn_0 0 rfl rfl)
theorem dX14_isIn_1 : decode cX14_isIn 1 = .ok (.iload_n 1, 1) := dk_27 (dk_at dksX14_isIn_0 1 rfl rfl)
theorem dX14_isIn_2 : decode cX14_isIn 2 = .ok (.if_icmp .lt 12, 3) := dk_161 0 12 (dk_at dksX14_isIn_0 2 rfl rfl)
theorem dX14_isIn_5 : decode cX14_isIn 5 = .ok (.iload_n 0, 1) := dk_26 (dk_at dksX14_isIn_0 5 rfl rfl)
theorem dX14_isIn_6 : decode cX14_isIn 6 = .ok (.iload_n 2, 1) := dk_28 (dk_at dksX14_isIn_0 6 rfl rfl)
theorem dX14_isIn_7 : decode cX14_isIn 7 = .ok (.if_icmp .gt 7, 3) := dk_163 0 7 (dk_at dksX14_isIn_0 7 rfl rfl)
theorem dX14_isIn_10 : decode cX14_isIn 10 = .ok (.iconst 1, 1) := dk_4 (dk_at dksX14_isIn_0 10 rfl rfl)
theorem dX14_isIn_11 : decode cX14_isIn 11 = .ok (.goto 4, 3) := dk_167 0 4 (dk_at dksX14_isIn_0 11 rfl rfl)
theorem dX14_isIn_14 : decode cX14_isIn 14 = .ok (.iconst 0, 1) := dk_3 (dk_at dksX14_isIn_0 14 rfl rfl)
theorem dX14_isIn_15 : decode cX14_isIn 15 = .ok (.ireturn, 1) := dk_172 (dk_at dksX14_isIn_0 15 rfl rfl)
abbrev cX14_readCells : ByteArray := prog_23_method_32_code
def yX14_readCells : MethodName := ⟨RX14, "readCells", "()Z"⟩
def dkwX14_readCells_5 : List UInt8 := [180, 0, 16, 16, 10, 92, 46, 4, 96, 79, 42, 182, 0, 226, 4, 172]
abbrev dktX14_readCells_5 : List UInt8 := dkwX14_readCells_5 ++ []
def dkwX14_readCells_4 : List UInt8 := [29, 96, 42, 180, 0, 7, 42, 180, 0, 164, 29, 96, 46, 16, 48, 100, 79, 132, 3, 1, 167, 255, 221, 42]
abbrev dktX14_readCells_4 : List UInt8 := dkwX14_readCells_4 ++ dktX14_readCells_5
def dkwX14_readCells_3 : List UInt8 := [180, 0, 16, 16, 9, 28, 79, 3, 62, 29, 28, 162, 0, 36, 42, 180, 0, 16, 16, 60, 28, 27, 104, 96]
abbrev dktX14_readCells_3 : List UInt8 := dkwX14_readCells_3 ++ dktX14_readCells_4
def dkwX14_readCells_2 : List UInt8 := [27, 158, 0, 20, 28, 42, 180, 0, 16, 16, 9, 46, 159, 0, 9, 42, 5, 182, 0, 216, 172, 42]
abbrev dktX14_readCells_2 : List UInt8 := dkwX14_readCells_2 ++ dktX14_readCells_3
def dkwX14_readCells_1 : List UInt8 := [42, 180, 0, 170, 6, 159, 0, 9, 42, 4, 182, 0, 216, 172, 42, 180, 0, 161, 42, 180, 0, 164, 100, 61]
abbrev dktX14_readCells_1 : List UInt8 := dkwX14_readCells_1 ++ dktX14_readCells_2
def dkwX14_readCells_0 : List UInt8 := [42, 180, 0, 16, 16, 10, 46, 60, 27, 16, 8, 160, 0, 9, 42, 7, 182, 0, 216, 172, 42, 182, 0, 226]
abbrev dktX14_readCells_0 : List UInt8 := dkwX14_readCells_0 ++ dktX14_readCells_1
theorem dksX14_readCells_0 : cX14_readCells.data.toList.drop 0 = dktX14_readCells_0 := by decide +kernel
theorem dksX14_readCells_1 : cX14_readCells.data.toList.drop 24 = dktX14_readCells_1 := dk_seg dksX14_readCells_0 24 rfl rfl
theorem dksX14_readCells_2 : cX14_readCells.data.toList.drop 48 = dktX14_readCells_2 := dk_seg dksX14_readCells_1 24 rfl rfl
theorem dksX14_readCells_3 : cX14_readCells.data.toList.drop 70 = dktX14_readCells_3 := dk_seg dksX14_readCells_2 22 rfl rfl
theorem dksX14_readCells_4 : cX14_readCells.data.toList.drop 94 = dktX14_readCells_4 := dk_seg dksX14_readCells_3 24 rfl rfl
theorem dksX14_readCells_5 : cX14_readCells.data.toList.drop 118 = dktX14_readCells_5 := dk_seg dksX14_readCells_4 24 rfl rfl
theorem dX14_readCells_0 : decode cX14_readCells 0 = .ok (.aload_n 0, 1) := dk_42 (dk_at dksX14_readCells_0 0 rfl rfl)
theorem dX14_readCells_1 : decode cX14_readCells 1 = .ok (.getfield 16, 3) := dk_180 0 16 (dk_at dksX14_readCells_0 1 rfl rfl)
theorem dX14_readCells_4 : decode cX14_readCells 4 = .ok (.bipush 10, 2) := dk_16 10 (dk_at dksX14_readCells_0 4 rfl rfl)
theorem dX14_readCells_6 : decode cX14_readCells 6 = .ok (.iaload, 1) := dk_46 (dk_at dksX14_readCells_0 6 rfl rfl)
theorem dX14_readCells_7 : decode cX14_readCells 7 = .ok (.istore_n 1, 1) := dk_60 (dk_at dksX14_readCells_0 7 rfl rfl)
theorem dX14_readCells_8 : decode cX14_readCells 8 = .ok (.iload_n 1, 1) := dk_27 (dk_at dksX14_readCells_0 8 rfl rfl)
theorem dX14_readCells_9 : decode cX14_readCells 9 = .ok (.bipush 8, 2) := dk_16 8 (dk_at dksX14_readCells_0 9 rfl rfl)
theorem dX14_readCells_11 : decode cX14_readCells 11 = .ok (.if_icmp .ne 9, 3) := dk_160 0 9 (dk_at dksX14_readCells_0 11 rfl rfl)
theorem dX14_readCells_14 : decode cX14_readCells 14 = .ok (.aload_n 0, 1) := dk_42 (dk_at dksX14_readCells_0 14 rfl rfl)
theorem dX14_readCells_15 : decode cX14_readCells 15 = .ok (.iconst 4, 1) := dk_7 (dk_at dksX14_readCells_0 15 rfl rfl)
theorem dX14_readCells_16 : decode cX14_readCells 16 = .ok (.invokevirtual 216, 3) := dk_182 0 216 (dk_at dksX14_readCells_0 16 rfl rfl)
theorem dX14_readCells_19 : decode cX14_readCells 19 = .ok (.ireturn, 1) := dk_172 (dk_at dksX14_readCells_0 19 rfl rfl)
theorem dX14_readCells_20 : decode cX14_readCells 20 = .ok (.aload_n 0, 1) := dk_42 (dk_at dksX14_readCells_0 20 rfl rfl)
theorem dX14_readCells_21 : decode cX14_readCells 21 = .ok (.invokevirtual 226, 3) := dk_182 0 226 (dk_at dksX14_readCells_0 21 rfl rfl)
theorem dX14_readCells_24 : decode cX14_readCells 24 = .ok (.aload_n 0, 1) := dk_42 (dk_at dksX14_readCells_1 0 rfl rfl)
theorem dX14_readCells_25 : decode cX14_readCells 25 = .ok (.getfield 170, 3) := dk_180 0 170 (dk_at dksX14_readCells_1 1 rfl rfl)
theorem dX14_readCells_28 : decode cX14_readCells 28 = .ok (.iconst 3, 1) := dk_6 (dk_at dksX14_readCells_1 4 rfl rfl)
theorem dX14_readCells_29 : decode cX14_readCells 29 = .ok (.if_icmp .eq 9, 3) := dk_159 0 9 (dk_at dksX14_readCells_1 5 rfl rfl)
theorem dX14_readCells_32 : decode cX14_readCells 32 = .ok (.aload_n 0, 1) := dk_42 (dk_at dksX14_readCells_1 8 rfl rfl)
theorem dX14_readCells_33 : decode cX14_readCells 33 = .ok (.iconst 1, 1) := dk_4 (dk_at dksX14_readCells_1 9 rfl rfl)
theorem dX14_readCells_34 : decode cX14_readCells 34 = .ok (.invokevirtual 216, 3) := dk_182 0 216 (dk_at dksX14_readCells_1 10 rfl rfl)
theorem dX14_readCells_37 : decode cX14_readCells 37 = .ok (.ireturn, 1) := dk_172 (dk_at dksX14_readCells_1 13 rfl rfl)
theorem dX14_readCells_38 : decode cX14_readCells 38 = .ok (.aload_n 0, 1) := dk_42 (dk_at dksX14_readCells_1 14 rfl rfl)
theorem dX14_readCells_39 : decode cX14_readCells 39 = .ok (.getfield 161, 3) := dk_180 0 161 (dk_at dksX14_readCells_1 15 rfl rfl)
theorem dX14_readCells_42 : decode cX14_readCells 42 = .ok (.aload_n 0, 1) := dk_42 (dk_at dksX14_readCells_1 18 rfl rfl)
theorem dX14_readCells_43 : decode cX14_readCells 43 = .ok (.getfield 164, 3) := dk_180 0 164 (dk_at dksX14_readCells_1 19 rfl rfl)
theorem dX14_readCells_46 : decode cX14_readCells 46 = .ok (.isub, 1) := dk_100 (dk_at dksX14_readCells_1 22 rfl rfl)
theorem dX14_readCells_47 : decode cX14_readCells 47 = .ok (.istore_n 2, 1) := dk_61 (dk_at dksX14_readCells_1 23 rfl rfl)
theorem dX14_readCells_48 : decode cX14_readCells 48 = .ok (.iload_n 1, 1) := dk_27 (dk_at dksX14_readCells_2 0 rfl rfl)
theorem dX14_readCells_49 : decode cX14_readCells 49 = .ok (.ifCond .le 20, 3) := dk_158 0 20 (dk_at dksX14_readCells_2 1 rfl rfl)
theorem dX14_readCells_52 : decode cX14_readCells 52 = .ok (.iload_n 2, 1) := dk_28 (dk_at dksX14_readCells_2 4 rfl rfl)
theorem dX14_readCells_53 : decode cX14_readCells 53 = .ok (.aload_n 0, 1) := dk_42 (dk_at dksX14_readCells_2 5 rfl rfl)
theorem dX14_readCells_54 : decode cX14_readCells 54 = .ok (.getfield 16, 3) := dk_180 0 16 (dk_at dksX14_readCells_2 6 rfl rfl)
theorem dX14_readCells_57 : decode cX14_readCells 57 = .ok (.bipush 9, 2) := dk_16 9 (dk_at dksX14_readCells_2 9 rfl rfl)
theorem dX14_readCells_59 : decode cX14_readCells 59 = .ok (.iaload, 1) := dk_46 (dk_at dksX14_readCells_2 11 rfl rfl)
theorem dX14_readCells_60 : decode cX14_readCells 60 = .ok (.if_icmp .eq 9, 3) := dk_159 0 9 (dk_at dksX14_readCells_2 12 rfl rfl)
theorem dX14_readCells_63 : decode cX14_readCells 63 = .ok (.aload_n 0, 1) := dk_42 (dk_at dksX14_readCells_2 15 rfl rfl)
theorem dX14_readCells_64 : decode cX14_readCells 64 = .ok (.iconst 2, 1) := dk_5 (dk_at dksX14_readCells_2 16 rfl rfl)
theorem dX14_readCells_65 : decode cX14_readCells 65 = .ok (.invokevirtual 216, 3) := dk_182 0 216 (dk_at dksX14_readCells_2 17 rfl rfl)
theorem dX14_readCells_68 : decode cX14_readCells 68 = .ok (.ireturn, 1) := dk_172 (dk_at dksX14_readCells_2 20 rfl rfl)
theorem dX14_readCells_69 : decode cX14_readCells 69 = .ok (.aload_n 0, 1) := dk_42 (dk_at dksX14_readCells_2 21 rfl rfl)
theorem dX14_readCells_70 : decode cX14_readCells 70 = .ok (.getfield 16, 3) := dk_180 0 16 (dk_at dksX14_readCells_3 0 rfl rfl)
theorem dX14_readCells_73 : decode cX14_readCells 73 = .ok (.bipush 9, 2) := dk_16 9 (dk_at dksX14_readCells_3 3 rfl rfl)
theorem dX14_readCells_75 : decode cX14_readCells 75 = .ok (.iload_n 2, 1) := dk_28 (dk_at dksX14_readCells_3 5 rfl rfl)
theorem dX14_readCells_76 : decode cX14_readCells 76 = .ok (.iastore, 1) := dk_79 (dk_at dksX14_readCells_3 6 rfl rfl)
theorem dX14_readCells_77 : decode cX14_readCells 77 = .ok (.iconst 0, 1) := dk_3 (dk_at dksX14_readCells_3 7 rfl rfl)
theorem dX14_readCells_78 : decode cX14_readCells 78 = .ok (.istore_n 3, 1) := dk_62 (dk_at dksX14_readCells_3 8 rfl rfl)
theorem dX14_readCells_79 : decode cX14_readCells 79 = .ok (.iload_n 3, 1) := dk_29 (dk_at dksX14_readCells_3 9 rfl rfl)
theorem dX14_readCells_80 : decode cX14_readCells 80 = .ok (.iload_n 2, 1) := dk_28 (dk_at dksX14_readCells_3 10 rfl rfl)
theorem dX14_readCells_81 : decode cX14_readCells 81 = .ok (.if_icmp .ge 36, 3) := dk_162 0 36 (dk_at dksX14_readCells_3 11 rfl rfl)
theorem dX14_readCells_84 : decode cX14_readCells 84 = .ok (.aload_n 0, 1) := dk_42 (dk_at dksX14_readCells_3 14 rfl rfl)
theorem dX14_readCells_85 : decode cX14_readCells 85 = .ok (.getfield 16, 3) := dk_180 0 16 (dk_at dksX14_readCells_3 15 rfl rfl)
theorem dX14_readCells_88 : decode cX14_readCells 88 = .ok (.bipush 60, 2) := dk_16 60 (dk_at dksX14_readCells_3 18 rfl rfl)
theorem dX14_readCells_90 : decode cX14_readCells 90 = .ok (.iload_n 2, 1) := dk_28 (dk_at dksX14_readCells_3 20 rfl rfl)
theorem dX14_readCells_91 : decode cX14_readCells 91 = .ok (.iload_n 1, 1) := dk_27 (dk_at dksX14_readCells_3 21 rfl rfl)
theorem dX14_readCells_92 : decode cX14_readCells 92 = .ok (.imul, 1) := dk_104 (dk_at dksX14_readCells_3 22 rfl rfl)
theorem dX14_readCells_93 : decode cX14_readCells 93 = .ok (.iadd, 1) := dk_96 (dk_at dksX14_readCells_3 23 rfl rfl)
theorem dX14_readCells_94 : decode cX14_readCells 94 = .ok (.iload_n 3, 1) := dk_29 (dk_at dksX14_readCells_4 0 rfl rfl)
theorem dX14_readCells_95 : decode cX14_readCells 95 = .ok (.iadd, 1) := dk_96 (dk_at dksX14_readCells_4 1 rfl rfl)
theorem dX14_readCells_96 : decode cX14_readCells 96 = .ok (.aload_n 0, 1) := dk_42 (dk_at dksX14_readCells_4 2 rfl rfl)
theorem dX14_readCells_97 : decode cX14_readCells 97 = .ok (.getfield 7, 3) := dk_180 0 7 (dk_at dksX14_readCells_4 3 rfl rfl)
theorem dX14_readCells_100 : decode cX14_readCells 100 = .ok (.aload_n 0, 1) := dk_42 (dk_at dksX14_readCells_4 6 rfl rfl)
theorem dX14_readCells_101 : decode cX14_readCells 101 = .ok (.getfield 164, 3) := dk_180 0 164 (dk_at dksX14_readCells_4 7 rfl rfl)
theorem dX14_readCells_104 : decode cX14_readCells 104 = .ok (.iload_n 3, 1) := dk_29 (dk_at dksX14_readCells_4 10 rfl rfl)
theorem dX14_readCells_105 : decode cX14_readCells 105 = .ok (.iadd, 1) := dk_96 (dk_at dksX14_readCells_4 11 rfl rfl)
theorem dX14_readCells_106 : decode cX14_readCells 106 = .ok (.iaload, 1) := dk_46 (dk_at dksX14_readCells_4 12 rfl rfl)
theorem dX14_readCells_107 : decode cX14_readCells 107 = .ok (.bipush 48, 2) := dk_16 48 (dk_at dksX14_readCells_4 13 rfl rfl)
theorem dX14_readCells_109 : decode cX14_readCells 109 = .ok (.isub, 1) := dk_100 (dk_at dksX14_readCells_4 15 rfl rfl)
theorem dX14_readCells_110 : decode cX14_readCells 110 = .ok (.iastore, 1) := dk_79 (dk_at dksX14_readCells_4 16 rfl rfl)
theorem dX14_readCells_111 : decode cX14_readCells 111 = .ok (.iinc 3 1, 3) := dk_132 3 1 (dk_at dksX14_readCells_4 17 rfl rfl)
theorem dX14_readCells_114 : decode cX14_readCells 114 = .ok (.goto (-35), 3) := dk_167 255 221 (dk_at dksX14_readCells_4 20 rfl rfl)
theorem dX14_readCells_117 : decode cX14_readCells 117 = .ok (.aload_n 0, 1) := dk_42 (dk_at dksX14_readCells_4 23 rfl rfl)
theorem dX14_readCells_118 : decode cX14_readCells 118 = .ok (.getfield 16, 3) := dk_180 0 16 (dk_at dksX14_readCells_5 0 rfl rfl)
theorem dX14_readCells_121 : decode cX14_readCells 121 = .ok (.bipush 10, 2) := dk_16 10 (dk_at dksX14_readCells_5 3 rfl rfl)
theorem dX14_readCells_123 : decode cX14_readCells 123 = .ok (.dup2, 1) := dk_92 (dk_at dksX14_readCells_5 5 rfl rfl)
theorem dX14_readCells_124 : decode cX14_readCells 124 = .ok (.iaload, 1) := dk_46 (dk_at dksX14_readCells_5 6 rfl rfl)
theorem dX14_readCells_125 : decode cX14_readCells 125 = .ok (.iconst 1, 1) := dk_4 (dk_at dksX14_readCells_5 7 rfl rfl)
theorem dX14_readCells_126 : decode cX14_readCells 126 = .ok (.iadd, 1) := dk_96 (dk_at dksX14_readCells_5 8 rfl rfl)
theorem dX14_readCells_127 : decode cX14_readCells 127 = .ok (.iastore, 1) := dk_79 (dk_at dksX14_readCells_5 9 rfl rfl)
theorem dX14_readCells_128 : decode cX14_readCells 128 = .ok (.aload_n 0, 1) := dk_42 (dk_at dksX14_readCells_5 10 rfl rfl)
theorem dX14_readCells_129 : decode cX14_readCells 129 = .ok (.invokevirtual 226, 3) := dk_182 0 226 (dk_at dksX14_readCells_5 11 rfl rfl)
theorem dX14_readCells_132 : decode cX14_readCells 132 = .ok (.iconst 1, 1) := dk_4 (dk_at dksX14_readCells_5 14 rfl rfl)
theorem dX14_readCells_133 : decode cX14_readCells 133 = .ok (.ireturn, 1) := dk_172 (dk_at dksX14_readCells_5 15 rfl rfl)
abbrev cX14_readBurn : ByteArray := prog_23_method_33_code
def yX14_readBurn : MethodName := ⟨RX14, "readBurn", "()Z"⟩
def dkwX14_readBurn_5 : List UInt8 := [182, 0, 216, 172, 42, 180, 0, 16, 17, 0, 130, 28, 96, 4, 79, 42, 182, 0, 226, 4, 172]
abbrev dktX14_readBurn_5 : List UInt8 := dkwX14_readBurn_5 ++ []
def dkwX14_readBurn_4 : List UInt8 := [42, 180, 0, 187, 104, 27, 96, 61, 42, 180, 0, 16, 17, 0, 130, 28, 96, 46, 4, 160, 0, 9, 42, 6]
abbrev dktX14_readBurn_4 : List UInt8 := dkwX14_readBurn_4 ++ dktX14_readBurn_5
def dkwX14_readBurn_3 : List UInt8 := [180, 0, 187, 104, 96, 27, 96, 46, 154, 0, 9, 42, 5, 182, 0, 216, 172, 42, 180, 0, 16, 16, 9, 46]
abbrev dktX14_readBurn_3 : List UInt8 := dkwX14_readBurn_3 ++ dktX14_readBurn_4
def dkwX14_readBurn_2 : List UInt8 := [180, 0, 16, 16, 10, 46, 162, 0, 28, 42, 180, 0, 16, 16, 60, 42, 180, 0, 16, 16, 9, 46, 42]
abbrev dktX14_readBurn_2 : List UInt8 := dkwX14_readBurn_2 ++ dktX14_readBurn_3
def dkwX14_readBurn_1 : List UInt8 := [180, 0, 223, 60, 42, 180, 0, 170, 6, 159, 0, 9, 42, 4, 182, 0, 216, 172, 42, 180, 0, 187, 42]
abbrev dktX14_readBurn_1 : List UInt8 := dkwX14_readBurn_1 ++ dktX14_readBurn_2
def dkwX14_readBurn_0 : List UInt8 := [42, 182, 0, 226, 42, 3, 42, 180, 0, 16, 16, 9, 46, 4, 100, 182, 0, 251, 154, 0, 5, 3, 172, 42]
abbrev dktX14_readBurn_0 : List UInt8 := dkwX14_readBurn_0 ++ dktX14_readBurn_1
theorem dksX14_readBurn_0 : cX14_readBurn.data.toList.drop 0 = dktX14_readBurn_0 := by decide +kernel
theorem dksX14_readBurn_1 : cX14_readBurn.data.toList.drop 24 = dktX14_readBurn_1 := dk_seg dksX14_readBurn_0 24 rfl rfl
theorem dksX14_readBurn_2 : cX14_readBurn.data.toList.drop 47 = dktX14_readBurn_2 := dk_seg dksX14_readBurn_1 23 rfl rfl
theorem dksX14_readBurn_3 : cX14_readBurn.data.toList.drop 70 = dktX14_readBurn_3 := dk_seg dksX14_readBurn_2 23 rfl rfl
theorem dksX14_readBurn_4 : cX14_readBurn.data.toList.drop 94 = dktX14_readBurn_4 := dk_seg dksX14_readBurn_3 24 rfl rfl
theorem dksX14_readBurn_5 : cX14_readBurn.data.toList.drop 118 = dktX14_readBurn_5 := dk_seg dksX14_readBurn_4 24 rfl rfl
theorem dX14_readBurn_0 : decode cX14_readBurn 0 = .ok (.aload_n 0, 1) := dk_42 (dk_at dksX14_readBurn_0 0 rfl rfl)
theorem dX14_readBurn_1 : decode cX14_readBurn 1 = .ok (.invokevirtual 226, 3) := dk_182 0 226 (dk_at dksX14_readBurn_0 1 rfl rfl)
theorem dX14_readBurn_4 : decode cX14_readBurn 4 = .ok (.aload_n 0, 1) := dk_42 (dk_at dksX14_readBurn_0 4 rfl rfl)
theorem dX14_readBurn_5 : decode cX14_readBurn 5 = .ok (.iconst 0, 1) := dk_3 (dk_at dksX14_readBurn_0 5 rfl rfl)
theorem dX14_readBurn_6 : decode cX14_readBurn 6 = .ok (.aload_n 0, 1) := dk_42 (dk_at dksX14_readBurn_0 6 rfl rfl)
theorem dX14_readBurn_7 : decode cX14_readBurn 7 = .ok (.getfield 16, 3) := dk_180 0 16 (dk_at dksX14_readBurn_0 7 rfl rfl)
theorem dX14_readBurn_10 : decode cX14_readBurn 10 = .ok (.bipush 9, 2) := dk_16 9 (dk_at dksX14_readBurn_0 10 rfl rfl)
theorem dX14_readBurn_12 : decode cX14_readBurn 12 = .ok (.iaload, 1) := dk_46 (dk_at dksX14_readBurn_0 12 rfl rfl)
theorem dX14_readBurn_13 : decode cX14_readBurn 13 = .ok (.iconst 1, 1) := dk_4 (dk_at dksX14_readBurn_0 13 rfl rfl)
theorem dX14_readBurn_14 : decode cX14_readBurn 14 = .ok (.isub, 1) := dk_100 (dk_at dksX14_readBurn_0 14 rfl rfl)
theorem dX14_readBurn_15 : decode cX14_readBurn 15 = .ok (.invokevirtual 251, 3) := dk_182 0 251 (dk_at dksX14_readBurn_0 15 rfl rfl)
theorem dX14_readBurn_18 : decode cX14_readBurn 18 = .ok (.ifCond .ne 5, 3) := dk_154 0 5 (dk_at dksX14_readBurn_0 18 rfl rfl)
theorem dX14_readBurn_21 : decode cX14_readBurn 21 = .ok (.iconst 0, 1) := dk_3 (dk_at dksX14_readBurn_0 21 rfl rfl)
theorem dX14_readBurn_22 : decode cX14_readBurn 22 = .ok (.ireturn, 1) := dk_172 (dk_at dksX14_readBurn_0 22 rfl rfl)
theorem dX14_readBurn_23 : decode cX14_readBurn 23 = .ok (.aload_n 0, 1) := dk_42 (dk_at dksX14_readBurn_0 23 rfl rfl)
theorem dX14_readBurn_24 : decode cX14_readBurn 24 = .ok (.getfield 223, 3) := dk_180 0 223 (dk_at dksX14_readBurn_1 0 rfl rfl)
theorem dX14_readBurn_27 : decode cX14_readBurn 27 = .ok (.istore_n 1, 1) := dk_60 (dk_at dksX14_readBurn_1 3 rfl rfl)
theorem dX14_readBurn_28 : decode cX14_readBurn 28 = .ok (.aload_n 0, 1) := dk_42 (dk_at dksX14_readBurn_1 4 rfl rfl)
theorem dX14_readBurn_29 : decode cX14_readBurn 29 = .ok (.getfield 170, 3) := dk_180 0 170 (dk_at dksX14_readBurn_1 5 rfl rfl)
theorem dX14_readBurn_32 : decode cX14_readBurn 32 = .ok (.iconst 3, 1) := dk_6 (dk_at dksX14_readBurn_1 8 rfl rfl)
theorem dX14_readBurn_33 : decode cX14_readBurn 33 = .ok (.if_icmp .eq 9, 3) := dk_159 0 9 (dk_at dksX14_readBurn_1 9 rfl rfl)
theorem dX14_readBurn_36 : decode cX14_readBurn 36 = .ok (.aload_n 0, 1) := dk_42 (dk_at dksX14_readBurn_1 12 rfl rfl)
theorem dX14_readBurn_37 : decode cX14_readBurn 37 = .ok (.iconst 1, 1) := dk_4 (dk_at dksX14_readBurn_1 13 rfl rfl)
theorem dX14_readBurn_38 : decode cX14_readBurn 38 = .ok (.invokevirtual 216, 3) := dk_182 0 216 (dk_at dksX14_readBurn_1 14 rfl rfl)
theorem dX14_readBurn_41 : decode cX14_readBurn 41 = .ok (.ireturn, 1) := dk_172 (dk_at dksX14_readBurn_1 17 rfl rfl)
theorem dX14_readBurn_42 : decode cX14_readBurn 42 = .ok (.aload_n 0, 1) := dk_42 (dk_at dksX14_readBurn_1 18 rfl rfl)
theorem dX14_readBurn_43 : decode cX14_readBurn 43 = .ok (.getfield 187, 3) := dk_180 0 187 (dk_at dksX14_readBurn_1 19 rfl rfl)
theorem dX14_readBurn_46 : decode cX14_readBurn 46 = .ok (.aload_n 0, 1) := dk_42 (dk_at dksX14_readBurn_1 22 rfl rfl)
theorem dX14_readBurn_47 : decode cX14_readBurn 47 = .ok (.getfield 16, 3) := dk_180 0 16 (dk_at dksX14_readBurn_2 0 rfl rfl)
theorem dX14_readBurn_50 : decode cX14_readBurn 50 = .ok (.bipush 10, 2) := dk_16 10 (dk_at dksX14_readBurn_2 3 rfl rfl)
theorem dX14_readBurn_52 : decode cX14_readBurn 52 = .ok (.iaload, 1) := dk_46 (dk_at dksX14_readBurn_2 5 rfl rfl)
theorem dX14_readBurn_53 : decode cX14_readBurn 53 = .ok (.if_icmp .ge 28, 3) := dk_162 0 28 (dk_at dksX14_readBurn_2 6 rfl rfl)
theorem dX14_readBurn_56 : decode cX14_readBurn 56 = .ok (.aload_n 0, 1) := dk_42 (dk_at dksX14_readBurn_2 9 rfl rfl)
theorem dX14_readBurn_57 : decode cX14_readBurn 57 = .ok (.getfield 16, 3) := dk_180 0 16 (dk_at dksX14_readBurn_2 10 rfl rfl)
theorem dX14_readBurn_60 : decode cX14_readBurn 60 = .ok (.bipush 60, 2) := dk_16 60 (dk_at dksX14_readBurn_2 13 rfl rfl)
theorem dX14_readBurn_62 : decode cX14_readBurn 62 = .ok (.aload_n 0, 1) := dk_42 (dk_at dksX14_readBurn_2 15 rfl rfl)
theorem dX14_readBurn_63 : decode cX14_readBurn 63 = .ok (.getfield 16, 3) := dk_180 0 16 (dk_at dksX14_readBurn_2 16 rfl rfl)
theorem dX14_readBurn_66 : decode cX14_readBurn 66 = .ok (.bipush 9, 2) := dk_16 9 (dk_at dksX14_readBurn_2 19 rfl rfl)
theorem dX14_readBurn_68 : decode cX14_readBurn 68 = .ok (.iaload, 1) := dk_46 (dk_at dksX14_readBurn_2 21 rfl rfl)
theorem dX14_readBurn_69 : decode cX14_readBurn 69 = .ok (.aload_n 0, 1) := dk_42 (dk_at dksX14_readBurn_2 22 rfl rfl)
theorem dX14_readBurn_70 : decode cX14_readBurn 70 = .ok (.getfield 187, 3) := dk_180 0 187 (dk_at dksX14_readBurn_3 0 rfl rfl)
theorem dX14_readBurn_73 : decode cX14_readBurn 73 = .ok (.imul, 1) := dk_104 (dk_at dksX14_readBurn_3 3 rfl rfl)
theorem dX14_readBurn_74 : decode cX14_readBurn 74 = .ok (.iadd, 1) := dk_96 (dk_at dksX14_readBurn_3 4 rfl rfl)
theorem dX14_readBurn_75 : decode cX14_readBurn 75 = .ok (.iload_n 1, 1) := dk_27 (dk_at dksX14_readBurn_3 5 rfl rfl)
theorem dX14_readBurn_76 : decode cX14_readBurn 76 = .ok (.iadd, 1) := dk_96 (dk_at dksX14_readBurn_3 6 rfl rfl)
theorem dX14_readBurn_77 : decode cX14_readBurn 77 = .ok (.iaload, 1) := dk_46 (dk_at dksX14_readBurn_3 7 rfl rfl)
theorem dX14_readBurn_78 : decode cX14_readBurn 78 = .ok (.ifCond .ne 9, 3) := dk_154 0 9 (dk_at dksX14_readBurn_3 8 rfl rfl)
theorem dX14_readBurn_81 : decode cX14_readBurn 81 = .ok (.aload_n 0, 1) := dk_42 (dk_at dksX14_readBurn_3 11 rfl rfl)
theorem dX14_readBurn_82 : decode cX14_readBurn 82 = .ok (.iconst 2, 1) := dk_5 (dk_at dksX14_readBurn_3 12 rfl rfl)
theorem dX14_readBurn_83 : decode cX14_readBurn 83 = .ok (.invokevirtual 216, 3) := dk_182 0 216 (dk_at dksX14_readBurn_3 13 rfl rfl)
theorem dX14_readBurn_86 : decode cX14_readBurn 86 = .ok (.ireturn, 1) := dk_172 (dk_at dksX14_readBurn_3 16 rfl rfl)
theorem dX14_readBurn_87 : decode cX14_readBurn 87 = .ok (.aload_n 0, 1) := dk_42 (dk_at dksX14_readBurn_3 17 rfl rfl)
theorem dX14_readBurn_88 : decode cX14_readBurn 88 = .ok (.getfield 16, 3) := dk_180 0 16 (dk_at dksX14_readBurn_3 18 rfl rfl)
theorem dX14_readBurn_91 : decode cX14_readBurn 91 = .ok (.bipush 9, 2) := dk_16 9 (dk_at dksX14_readBurn_3 21 rfl rfl)
theorem dX14_readBurn_93 : decode cX14_readBurn 93 = .ok (.iaload, 1) := dk_46 (dk_at dksX14_readBurn_3 23 rfl rfl)
theorem dX14_readBurn_94 : decode cX14_readBurn 94 = .ok (.aload_n 0, 1) := dk_42 (dk_at dksX14_readBurn_4 0 rfl rfl)
theorem dX14_readBurn_95 : decode cX14_readBurn 95 = .ok (.getfield 187, 3) := dk_180 0 187 (dk_at dksX14_readBurn_4 1 rfl rfl)
theorem dX14_readBurn_98 : decode cX14_readBurn 98 = .ok (.imul, 1) := dk_104 (dk_at dksX14_readBurn_4 4 rfl rfl)
theorem dX14_readBurn_99 : decode cX14_readBurn 99 = .ok (.iload_n 1, 1) := dk_27 (dk_at dksX14_readBurn_4 5 rfl rfl)
theorem dX14_readBurn_100 : decode cX14_readBurn 100 = .ok (.iadd, 1) := dk_96 (dk_at dksX14_readBurn_4 6 rfl rfl)
theorem dX14_readBurn_101 : decode cX14_readBurn 101 = .ok (.istore_n 2, 1) := dk_61 (dk_at dksX14_readBurn_4 7 rfl rfl)
theorem dX14_readBurn_102 : decode cX14_readBurn 102 = .ok (.aload_n 0, 1) := dk_42 (dk_at dksX14_readBurn_4 8 rfl rfl)
theorem dX14_readBurn_103 : decode cX14_readBurn 103 = .ok (.getfield 16, 3) := dk_180 0 16 (dk_at dksX14_readBurn_4 9 rfl rfl)
theorem dX14_readBurn_106 : decode cX14_readBurn 106 = .ok (.sipush 130, 3) := dk_17 0 130 (dk_at dksX14_readBurn_4 12 rfl rfl)
theorem dX14_readBurn_109 : decode cX14_readBurn 109 = .ok (.iload_n 2, 1) := dk_28 (dk_at dksX14_readBurn_4 15 rfl rfl)
theorem dX14_readBurn_110 : decode cX14_readBurn 110 = .ok (.iadd, 1) := dk_96 (dk_at dksX14_readBurn_4 16 rfl rfl)
theorem dX14_readBurn_111 : decode cX14_readBurn 111 = .ok (.iaload, 1) := dk_46 (dk_at dksX14_readBurn_4 17 rfl rfl)
theorem dX14_readBurn_112 : decode cX14_readBurn 112 = .ok (.iconst 1, 1) := dk_4 (dk_at dksX14_readBurn_4 18 rfl rfl)
theorem dX14_readBurn_113 : decode cX14_readBurn 113 = .ok (.if_icmp .ne 9, 3) := dk_160 0 9 (dk_at dksX14_readBurn_4 19 rfl rfl)
theorem dX14_readBurn_116 : decode cX14_readBurn 116 = .ok (.aload_n 0, 1) := dk_42 (dk_at dksX14_readBurn_4 22 rfl rfl)
theorem dX14_readBurn_117 : decode cX14_readBurn 117 = .ok (.iconst 3, 1) := dk_6 (dk_at dksX14_readBurn_4 23 rfl rfl)
theorem dX14_readBurn_118 : decode cX14_readBurn 118 = .ok (.invokevirtual 216, 3) := dk_182 0 216 (dk_at dksX14_readBurn_5 0 rfl rfl)
theorem dX14_readBurn_121 : decode cX14_readBurn 121 = .ok (.ireturn, 1) := dk_172 (dk_at dksX14_readBurn_5 3 rfl rfl)
theorem dX14_readBurn_122 : decode cX14_readBurn 122 = .ok (.aload_n 0, 1) := dk_42 (dk_at dksX14_readBurn_5 4 rfl rfl)
theorem dX14_readBurn_123 : decode cX14_readBurn 123 = .ok (.getfield 16, 3) := dk_180 0 16 (dk_at dksX14_readBurn_5 5 rfl rfl)
theorem dX14_readBurn_126 : decode cX14_readBurn 126 = .ok (.sipush 130, 3) := dk_17 0 130 (dk_at dksX14_readBurn_5 8 rfl rfl)
theorem dX14_readBurn_129 : decode cX14_readBurn 129 = .ok (.iload_n 2, 1) := dk_28 (dk_at dksX14_readBurn_5 11 rfl rfl)
theorem dX14_readBurn_130 : decode cX14_readBurn 130 = .ok (.iadd, 1) := dk_96 (dk_at dksX14_readBurn_5 12 rfl rfl)
theorem dX14_readBurn_131 : decode cX14_readBurn 131 = .ok (.iconst 1, 1) := dk_4 (dk_at dksX14_readBurn_5 13 rfl rfl)
theorem dX14_readBurn_132 : decode cX14_readBurn 132 = .ok (.iastore, 1) := dk_79 (dk_at dksX14_readBurn_5 14 rfl rfl)
theorem dX14_readBurn_133 : decode cX14_readBurn 133 = .ok (.aload_n 0, 1) := dk_42 (dk_at dksX14_readBurn_5 15 rfl rfl)
theorem dX14_readBurn_134 : decode cX14_readBurn 134 = .ok (.invokevirtual 226, 3) := dk_182 0 226 (dk_at dksX14_readBurn_5 16 rfl rfl)
theorem dX14_readBurn_137 : decode cX14_readBurn 137 = .ok (.iconst 1, 1) := dk_4 (dk_at dksX14_readBurn_5 19 rfl rfl)
theorem dX14_readBurn_138 : decode cX14_readBurn 138 = .ok (.ireturn, 1) := dk_172 (dk_at dksX14_readBurn_5 20 rfl rfl)
abbrev cX14_readOnce : ByteArray := prog_23_method_34_code
def yX14_readOnce : MethodName := ⟨RX14, "readOnce", "(I)Z"⟩
def dkwX14_readOnce_9 : List UInt8 := [79, 42, 182, 0, 226, 4, 172]
abbrev dktX14_readOnce_9 : List UInt8 := dkwX14_readOnce_9 ++ []
def dkwX14_readOnce_8 : List UInt8 := [132, 2, 1, 167, 255, 237, 28, 7, 160, 0, 9, 42, 4, 182, 0, 216, 172, 42, 180, 0, 16, 16, 11, 28]
abbrev dktX14_readOnce_8 : List UInt8 := dkwX14_readOnce_8 ++ dktX14_readOnce_9
def dkwX14_readOnce_7 : List UInt8 := [182, 1, 5, 172, 3, 61, 28, 7, 162, 0, 20, 42, 16, 10, 28, 96, 182, 1, 8, 154, 0, 9]
abbrev dktX14_readOnce_7 : List UInt8 := dkwX14_readOnce_7 ++ dktX14_readOnce_8
def dkwX14_readOnce_6 : List UInt8 := [3, 16, 99, 182, 1, 5, 172, 42, 16, 7, 4, 16, 99, 182, 1, 5, 172, 42, 16, 8, 4, 16, 9]
abbrev dktX14_readOnce_6 : List UInt8 := dkwX14_readOnce_6 ++ dktX14_readOnce_7
def dkwX14_readOnce_5 : List UInt8 := [153, 0, 19, 42, 8, 3, 17, 39, 15, 182, 1, 5, 153, 0, 7, 4, 167, 0, 4, 3, 172, 42, 16, 6]
abbrev dktX14_readOnce_5 : List UInt8 := dkwX14_readOnce_5 ++ dktX14_readOnce_6
def dkwX14_readOnce_4 : List UInt8 := [16, 20, 182, 1, 5, 153, 0, 7, 4, 167, 0, 4, 3, 172, 42, 7, 4, 16, 30, 182, 1, 5]
abbrev dktX14_readOnce_4 : List UInt8 := dkwX14_readOnce_4 ++ dktX14_readOnce_5
def dkwX14_readOnce_3 : List UInt8 := [42, 4, 16, 10, 16, 99, 182, 1, 5, 172, 42, 5, 4, 16, 30, 182, 1, 5, 153, 0, 18, 42, 6, 4]
abbrev dktX14_readOnce_3 : List UInt8 := dkwX14_readOnce_3 ++ dktX14_readOnce_4
def dkwX14_readOnce_2 : List UInt8 := [170, 0, 0, 0, 0, 135, 0, 0, 0, 3, 0, 0, 0, 8, 0, 0, 0, 38, 0, 0, 0, 48, 0, 0, 0, 76, 0, 0, 0, 105, 0, 0, 0, 115, 0, 0, 0, 125]
abbrev dktX14_readOnce_2 : List UInt8 := dkwX14_readOnce_2 ++ dktX14_readOnce_3
def dkwX14_readOnce_1 : List UInt8 := [120, 128, 181, 0, 255, 42, 182, 0, 226, 27]
abbrev dktX14_readOnce_1 : List UInt8 := dkwX14_readOnce_1 ++ dktX14_readOnce_2
def dkwX14_readOnce_0 : List UInt8 := [42, 180, 0, 255, 27, 184, 1, 2, 153, 0, 9, 42, 6, 182, 0, 216, 172, 42, 89, 180, 0, 255, 4, 27]
abbrev dktX14_readOnce_0 : List UInt8 := dkwX14_readOnce_0 ++ dktX14_readOnce_1
theorem dksX14_readOnce_0 : cX14_readOnce.data.toList.drop 0 = dktX14_readOnce_0 := by decide +kernel
theorem dksX14_readOnce_1 : cX14_readOnce.data.toList.drop 24 = dktX14_readOnce_1 := dk_seg dksX14_readOnce_0 24 rfl rfl
theorem dksX14_readOnce_2 : cX14_readOnce.data.toList.drop 34 = dktX14_readOnce_2 := dk_seg dksX14_readOnce_1 10 rfl rfl
theorem dksX14_readOnce_3 : cX14_readOnce.data.toList.drop 72 = dktX14_readOnce_3 := dk_seg dksX14_readOnce_2 38 rfl rfl
theorem dksX14_readOnce_4 : cX14_readOnce.data.toList.drop 96 = dktX14_readOnce_4 := dk_seg dksX14_readOnce_3 24 rfl rfl
theorem dksX14_readOnce_5 : cX14_readOnce.data.toList.drop 118 = dktX14_readOnce_5 := dk_seg dksX14_readOnce_4 22 rfl rfl
theorem dksX14_readOnce_6 : cX14_readOnce.data.toList.drop 142 = dktX14_readOnce_6 := dk_seg dksX14_readOnce_5 24 rfl rfl
theorem dksX14_readOnce_7 : cX14_readOnce.data.toList.drop 165 = dktX14_readOnce_7 := dk_seg dksX14_readOnce_6 23 rfl rfl
theorem dksX14_readOnce_8 : cX14_readOnce.data.toList.drop 187 = dktX14_readOnce_8 := dk_seg dksX14_readOnce_7 22 rfl rfl
theorem dksX14_readOnce_9 : cX14_readOnce.data.toList.drop 211 = dktX14_readOnce_9 := dk_seg dksX14_readOnce_8 24 rfl rfl
theorem dX14_readOnce_0 : decode cX14_readOnce 0 = .ok (.aload_n 0, 1) := dk_42 (dk_at dksX14_readOnce_0 0 rfl rfl)
theorem dX14_readOnce_1 : decode cX14_readOnce 1 = .ok (.getfield 255, 3) := dk_180 0 255 (dk_at dksX14_readOnce_0 1 rfl rfl)
theorem dX14_readOnce_4 : decode cX14_readOnce 4 = .ok (.iload_n 1, 1) := dk_27 (dk_at dksX14_readOnce_0 4 rfl rfl)
theorem dX14_readOnce_5 : decode cX14_readOnce 5 = .ok (.invokestatic 258, 3) := dk_184 1 2 (dk_at dksX14_readOnce_0 5 rfl rfl)
theorem dX14_readOnce_8 : decode cX14_readOnce 8 = .ok (.ifCond .eq 9, 3) := dk_153 0 9 (dk_at dksX14_readOnce_0 8 rfl rfl)
theorem dX14_readOnce_11 : decode cX14_readOnce 11 = .ok (.aload_n 0, 1) := dk_42 (dk_at dksX14_readOnce_0 11 rfl rfl)
theorem dX14_readOnce_12 : decode cX14_readOnce 12 = .ok (.iconst 3, 1) := dk_6 (dk_at dksX14_readOnce_0 12 rfl rfl)
theorem dX14_readOnce_13 : decode cX14_readOnce 13 = .ok (.invokevirtual 216, 3) := dk_182 0 216 (dk_at dksX14_readOnce_0 13 rfl rfl)
theorem dX14_readOnce_16 : decode cX14_readOnce 16 = .ok (.ireturn, 1) := dk_172 (dk_at dksX14_readOnce_0 16 rfl rfl)
theorem dX14_readOnce_17 : decode cX14_readOnce 17 = .ok (.aload_n 0, 1) := dk_42 (dk_at dksX14_readOnce_0 17 rfl rfl)
theorem dX14_readOnce_18 : decode cX14_readOnce 18 = .ok (.dup, 1) := dk_89 (dk_at dksX14_readOnce_0 18 rfl rfl)
theorem dX14_readOnce_19 : decode cX14_readOnce 19 = .ok (.getfield 255, 3) := dk_180 0 255 (dk_at dksX14_readOnce_0 19 rfl rfl)
theorem dX14_readOnce_22 : decode cX14_readOnce 22 = .ok (.iconst 1, 1) := dk_4 (dk_at dksX14_readOnce_0 22 rfl rfl)
theorem dX14_readOnce_23 : decode cX14_readOnce 23 = .ok (.iload_n 1, 1) := dk_27 (dk_at dksX14_readOnce_0 23 rfl rfl)
theorem dX14_readOnce_24 : decode cX14_readOnce 24 = .ok (.ishl, 1) := dk_120 (dk_at dksX14_readOnce_1 0 rfl rfl)
theorem dX14_readOnce_25 : decode cX14_readOnce 25 = .ok (.ior, 1) := dk_128 (dk_at dksX14_readOnce_1 1 rfl rfl)
theorem dX14_readOnce_26 : decode cX14_readOnce 26 = .ok (.putfield 255, 3) := dk_181 0 255 (dk_at dksX14_readOnce_1 2 rfl rfl)
theorem dX14_readOnce_29 : decode cX14_readOnce 29 = .ok (.aload_n 0, 1) := dk_42 (dk_at dksX14_readOnce_1 5 rfl rfl)
theorem dX14_readOnce_30 : decode cX14_readOnce 30 = .ok (.invokevirtual 226, 3) := dk_182 0 226 (dk_at dksX14_readOnce_1 6 rfl rfl)
theorem dX14_readOnce_33 : decode cX14_readOnce 33 = .ok (.iload_n 1, 1) := dk_27 (dk_at dksX14_readOnce_1 9 rfl rfl)
theorem dX14_readOnce_34 : decode cX14_readOnce 34 = .ok (.tableswitch 135 3 8 #[38, 48, 76, 105, 115, 125], 38) := by decide +kernel
theorem dX14_readOnce_72 : decode cX14_readOnce 72 = .ok (.aload_n 0, 1) := dk_42 (dk_at dksX14_readOnce_3 0 rfl rfl)
theorem dX14_readOnce_73 : decode cX14_readOnce 73 = .ok (.iconst 1, 1) := dk_4 (dk_at dksX14_readOnce_3 1 rfl rfl)
theorem dX14_readOnce_74 : decode cX14_readOnce 74 = .ok (.bipush 10, 2) := dk_16 10 (dk_at dksX14_readOnce_3 2 rfl rfl)
theorem dX14_readOnce_76 : decode cX14_readOnce 76 = .ok (.bipush 99, 2) := dk_16 99 (dk_at dksX14_readOnce_3 4 rfl rfl)
theorem dX14_readOnce_78 : decode cX14_readOnce 78 = .ok (.invokevirtual 261, 3) := dk_182 1 5 (dk_at dksX14_readOnce_3 6 rfl rfl)
theorem dX14_readOnce_81 : decode cX14_readOnce 81 = .ok (.ireturn, 1) := dk_172 (dk_at dksX14_readOnce_3 9 rfl rfl)
theorem dX14_readOnce_82 : decode cX14_readOnce 82 = .ok (.aload_n 0, 1) := dk_42 (dk_at dksX14_readOnce_3 10 rfl rfl)
theorem dX14_readOnce_83 : decode cX14_readOnce 83 = .ok (.iconst 2, 1) := dk_5 (dk_at dksX14_readOnce_3 11 rfl rfl)
theorem dX14_readOnce_84 : decode cX14_readOnce 84 = .ok (.iconst 1, 1) := dk_4 (dk_at dksX14_readOnce_3 12 rfl rfl)
theorem dX14_readOnce_85 : decode cX14_readOnce 85 = .ok (.bipush 30, 2) := dk_16 30 (dk_at dksX14_readOnce_3 13 rfl rfl)
theorem dX14_readOnce_87 : decode cX14_readOnce 87 = .ok (.invokevirtual 261, 3) := dk_182 1 5 (dk_at dksX14_readOnce_3 15 rfl rfl)
theorem dX14_readOnce_90 : decode cX14_readOnce 90 = .ok (.ifCond .eq 18, 3) := dk_153 0 18 (dk_at dksX14_readOnce_3 18 rfl rfl)
theorem dX14_readOnce_93 : decode cX14_readOnce 93 = .ok (.aload_n 0, 1) := dk_42 (dk_at dksX14_readOnce_3 21 rfl rfl)
theorem dX14_readOnce_94 : decode cX14_readOnce 94 = .ok (.iconst 3, 1) := dk_6 (dk_at dksX14_readOnce_3 22 rfl rfl)
theorem dX14_readOnce_95 : decode cX14_readOnce 95 = .ok (.iconst 1, 1) := dk_4 (dk_at dksX14_readOnce_3 23 rfl rfl)
theorem dX14_readOnce_96 : decode cX14_readOnce 96 = .ok (.bipush 20, 2) := dk_16 20 (dk_at dksX14_readOnce_4 0 rfl rfl)
theorem dX14_readOnce_98 : decode cX14_readOnce 98 = .ok (.invokevirtual 261, 3) := dk_182 1 5 (dk_at dksX14_readOnce_4 2 rfl rfl)
theorem dX14_readOnce_101 : decode cX14_readOnce 101 = .ok (.ifCond .eq 7, 3) := dk_153 0 7 (dk_at dksX14_readOnce_4 5 rfl rfl)
theorem dX14_readOnce_104 : decode cX14_readOnce 104 = .ok (.iconst 1, 1) := dk_4 (dk_at dksX14_readOnce_4 8 rfl rfl)
theorem dX14_readOnce_105 : decode cX14_readOnce 105 = .ok (.goto 4, 3) := dk_167 0 4 (dk_at dksX14_readOnce_4 9 rfl rfl)
theorem dX14_readOnce_108 : decode cX14_readOnce 108 = .ok (.iconst 0, 1) := dk_3 (dk_at dksX14_readOnce_4 12 rfl rfl)
theorem dX14_readOnce_109 : decode cX14_readOnce 109 = .ok (.ireturn, 1) := dk_172 (dk_at dksX14_readOnce_4 13 rfl rfl)
theorem dX14_readOnce_110 : decode cX14_readOnce 110 = .ok (.aload_n 0, 1) := dk_42 (dk_at dksX14_readOnce_4 14 rfl rfl)
theorem dX14_readOnce_111 : decode cX14_readOnce 111 = .ok (.iconst 4, 1) := dk_7 (dk_at dksX14_readOnce_4 15 rfl rfl)
theorem dX14_readOnce_112 : decode cX14_readOnce 112 = .ok (.iconst 1, 1) := dk_4 (dk_at dksX14_readOnce_4 16 rfl rfl)
theorem dX14_readOnce_113 : decode cX14_readOnce 113 = .ok (.bipush 30, 2) := dk_16 30 (dk_at dksX14_readOnce_4 17 rfl rfl)
theorem dX14_readOnce_115 : decode cX14_readOnce 115 = .ok (.invokevirtual 261, 3) := dk_182 1 5 (dk_at dksX14_readOnce_4 19 rfl rfl)
theorem dX14_readOnce_118 : decode cX14_readOnce 118 = .ok (.ifCond .eq 19, 3) := dk_153 0 19 (dk_at dksX14_readOnce_5 0 rfl rfl)
theorem dX14_readOnce_121 : decode cX14_readOnce 121 = .ok (.aload_n 0, 1) := dk_42 (dk_at dksX14_readOnce_5 3 rfl rfl)
theorem dX14_readOnce_122 : decode cX14_readOnce 122 = .ok (.iconst 5, 1) := dk_8 (dk_at dksX14_readOnce_5 4 rfl rfl)
theorem dX14_readOnce_123 : decode cX14_readOnce 123 = .ok (.iconst 0, 1) := dk_3 (dk_at dksX14_readOnce_5 5 rfl rfl)
theorem dX14_readOnce_124 : decode cX14_readOnce 124 = .ok (.sipush 9999, 3) := dk_17 39 15 (dk_at dksX14_readOnce_5 6 rfl rfl)
theorem dX14_readOnce_127 : decode cX14_readOnce 127 = .ok (.invokevirtual 261, 3) := dk_182 1 5 (dk_at dksX14_readOnce_5 9 rfl rfl)
theorem dX14_readOnce_130 : decode cX14_readOnce 130 = .ok (.ifCond .eq 7, 3) := dk_153 0 7 (dk_at dksX14_readOnce_5 12 rfl rfl)
theorem dX14_readOnce_133 : decode cX14_readOnce 133 = .ok (.iconst 1, 1) := dk_4 (dk_at dksX14_readOnce_5 15 rfl rfl)
theorem dX14_readOnce_134 : decode cX14_readOnce 134 = .ok (.goto 4, 3) := dk_167 0 4 (dk_at dksX14_readOnce_5 16 rfl rfl)
theorem dX14_readOnce_137 : decode cX14_readOnce 137 = .ok (.iconst 0, 1) := dk_3 (dk_at dksX14_readOnce_5 19 rfl rfl)
theorem dX14_readOnce_138 : decode cX14_readOnce 138 = .ok (.ireturn, 1) := dk_172 (dk_at dksX14_readOnce_5 20 rfl rfl)
theorem dX14_readOnce_139 : decode cX14_readOnce 139 = .ok (.aload_n 0, 1) := dk_42 (dk_at dksX14_readOnce_5 21 rfl rfl)
theorem dX14_readOnce_140 : decode cX14_readOnce 140 = .ok (.bipush 6, 2) := dk_16 6 (dk_at dksX14_readOnce_5 22 rfl rfl)
theorem dX14_readOnce_142 : decode cX14_readOnce 142 = .ok (.iconst 0, 1) := dk_3 (dk_at dksX14_readOnce_6 0 rfl rfl)
theorem dX14_readOnce_143 : decode cX14_readOnce 143 = .ok (.bipush 99, 2) := dk_16 99 (dk_at dksX14_readOnce_6 1 rfl rfl)
theorem dX14_readOnce_145 : decode cX14_readOnce 145 = .ok (.invokevirtual 261, 3) := dk_182 1 5 (dk_at dksX14_readOnce_6 3 rfl rfl)
theorem dX14_readOnce_148 : decode cX14_readOnce 148 = .ok (.ireturn, 1) := dk_172 (dk_at dksX14_readOnce_6 6 rfl rfl)
theorem dX14_readOnce_149 : decode cX14_readOnce 149 = .ok (.aload_n 0, 1) := dk_42 (dk_at dksX14_readOnce_6 7 rfl rfl)
theorem dX14_readOnce_150 : decode cX14_readOnce 150 = .ok (.bipush 7, 2) := dk_16 7 (dk_at dksX14_readOnce_6 8 rfl rfl)
theorem dX14_readOnce_152 : decode cX14_readOnce 152 = .ok (.iconst 1, 1) := dk_4 (dk_at dksX14_readOnce_6 10 rfl rfl)
theorem dX14_readOnce_153 : decode cX14_readOnce 153 = .ok (.bipush 99, 2) := dk_16 99 (dk_at dksX14_readOnce_6 11 rfl rfl)
theorem dX14_readOnce_155 : decode cX14_readOnce 155 = .ok (.invokevirtual 261, 3) := dk_182 1 5 (dk_at dksX14_readOnce_6 13 rfl rfl)
theorem dX14_readOnce_158 : decode cX14_readOnce 158 = .ok (.ireturn, 1) := dk_172 (dk_at dksX14_readOnce_6 16 rfl rfl)
theorem dX14_readOnce_159 : decode cX14_readOnce 159 = .ok (.aload_n 0, 1) := dk_42 (dk_at dksX14_readOnce_6 17 rfl rfl)
theorem dX14_readOnce_160 : decode cX14_readOnce 160 = .ok (.bipush 8, 2) := dk_16 8 (dk_at dksX14_readOnce_6 18 rfl rfl)
theorem dX14_readOnce_162 : decode cX14_readOnce 162 = .ok (.iconst 1, 1) := dk_4 (dk_at dksX14_readOnce_6 20 rfl rfl)
theorem dX14_readOnce_163 : decode cX14_readOnce 163 = .ok (.bipush 9, 2) := dk_16 9 (dk_at dksX14_readOnce_6 21 rfl rfl)
theorem dX14_readOnce_165 : decode cX14_readOnce 165 = .ok (.invokevirtual 261, 3) := dk_182 1 5 (dk_at dksX14_readOnce_7 0 rfl rfl)
theorem dX14_readOnce_168 : decode cX14_readOnce 168 = .ok (.ireturn, 1) := dk_172 (dk_at dksX14_readOnce_7 3 rfl rfl)
theorem dX14_readOnce_169 : decode cX14_readOnce 169 = .ok (.iconst 0, 1) := dk_3 (dk_at dksX14_readOnce_7 4 rfl rfl)
theorem dX14_readOnce_170 : decode cX14_readOnce 170 = .ok (.istore_n 2, 1) := dk_61 (dk_at dksX14_readOnce_7 5 rfl rfl)
theorem dX14_readOnce_171 : decode cX14_readOnce 171 = .ok (.iload_n 2, 1) := dk_28 (dk_at dksX14_readOnce_7 6 rfl rfl)
theorem dX14_readOnce_172 : decode cX14_readOnce 172 = .ok (.iconst 4, 1) := dk_7 (dk_at dksX14_readOnce_7 7 rfl rfl)
theorem dX14_readOnce_173 : decode cX14_readOnce 173 = .ok (.if_icmp .ge 20, 3) := dk_162 0 20 (dk_at dksX14_readOnce_7 8 rfl rfl)
theorem dX14_readOnce_176 : decode cX14_readOnce 176 = .ok (.aload_n 0, 1) := dk_42 (dk_at dksX14_readOnce_7 11 rfl rfl)
theorem dX14_readOnce_177 : decode cX14_readOnce 177 = .ok (.bipush 10, 2) := dk_16 10 (dk_at dksX14_readOnce_7 12 rfl rfl)
theorem dX14_readOnce_179 : decode cX14_readOnce 179 = .ok (.iload_n 2, 1) := dk_28 (dk_at dksX14_readOnce_7 14 rfl rfl)
theorem dX14_readOnce_180 : decode cX14_readOnce 180 = .ok (.iadd, 1) := dk_96 (dk_at dksX14_readOnce_7 15 rfl rfl)
theorem dX14_readOnce_181 : decode cX14_readOnce 181 = .ok (.invokevirtual 264, 3) := dk_182 1 8 (dk_at dksX14_readOnce_7 16 rfl rfl)
theorem dX14_readOnce_184 : decode cX14_readOnce 184 = .ok (.ifCond .ne 9, 3) := dk_154 0 9 (dk_at dksX14_readOnce_7 19 rfl rfl)
theorem dX14_readOnce_187 : decode cX14_readOnce 187 = .ok (.iinc 2 1, 3) := dk_132 2 1 (dk_at dksX14_readOnce_8 0 rfl rfl)
theorem dX14_readOnce_190 : decode cX14_readOnce 190 = .ok (.goto (-19), 3) := dk_167 255 237 (dk_at dksX14_readOnce_8 3 rfl rfl)
theorem dX14_readOnce_193 : decode cX14_readOnce 193 = .ok (.iload_n 2, 1) := dk_28 (dk_at dksX14_readOnce_8 6 rfl rfl)
theorem dX14_readOnce_194 : decode cX14_readOnce 194 = .ok (.iconst 4, 1) := dk_7 (dk_at dksX14_readOnce_8 7 rfl rfl)
theorem dX14_readOnce_195 : decode cX14_readOnce 195 = .ok (.if_icmp .ne 9, 3) := dk_160 0 9 (dk_at dksX14_readOnce_8 8 rfl rfl)
theorem dX14_readOnce_198 : decode cX14_readOnce 198 = .ok (.aload_n 0, 1) := dk_42 (dk_at dksX14_readOnce_8 11 rfl rfl)
theorem dX14_readOnce_199 : decode cX14_readOnce 199 = .ok (.iconst 1, 1) := dk_4 (dk_at dksX14_readOnce_8 12 rfl rfl)
theorem dX14_readOnce_200 : decode cX14_readOnce 200 = .ok (.invokevirtual 216, 3) := dk_182 0 216 (dk_at dksX14_readOnce_8 13 rfl rfl)
theorem dX14_readOnce_203 : decode cX14_readOnce 203 = .ok (.ireturn, 1) := dk_172 (dk_at dksX14_readOnce_8 16 rfl rfl)
theorem dX14_readOnce_204 : decode cX14_readOnce 204 = .ok (.aload_n 0, 1) := dk_42 (dk_at dksX14_readOnce_8 17 rfl rfl)
theorem dX14_readOnce_205 : decode cX14_readOnce 205 = .ok (.getfield 16, 3) := dk_180 0 16 (dk_at dksX14_readOnce_8 18 rfl rfl)
theorem dX14_readOnce_208 : decode cX14_readOnce 208 = .ok (.bipush 11, 2) := dk_16 11 (dk_at dksX14_readOnce_8 21 rfl rfl)
theorem dX14_readOnce_210 : decode cX14_readOnce 210 = .ok (.iload_n 2, 1) := dk_28 (dk_at dksX14_readOnce_8 23 rfl rfl)
theorem dX14_readOnce_211 : decode cX14_readOnce 211 = .ok (.iastore, 1) := dk_79 (dk_at dksX14_readOnce_9 0 rfl rfl)
theorem dX14_readOnce_212 : decode cX14_readOnce 212 = .ok (.aload_n 0, 1) := dk_42 (dk_at dksX14_readOnce_9 1 rfl rfl)
theorem dX14_readOnce_213 : decode cX14_readOnce 213 = .ok (.invokevirtual 226, 3) := dk_182 0 226 (dk_at dksX14_readOnce_9 2 rfl rfl)
theorem dX14_readOnce_216 : decode cX14_readOnce 216 = .ok (.iconst 1, 1) := dk_4 (dk_at dksX14_readOnce_9 5 rfl rfl)
theorem dX14_readOnce_217 : decode cX14_readOnce 217 = .ok (.ireturn, 1) := dk_172 (dk_at dksX14_readOnce_9 6 rfl rfl)
abbrev cX14_has : ByteArray := prog_23_method_9_code
def yX14_has : MethodName := ⟨RX14, "has", "(II)Z"⟩
def dkwX14_has_0 : List UInt8 := [26, 27, 122, 4, 126, 4, 160, 0, 7, 4, 167, 0, 4, 3, 172]
abbrev dktX14_has_0 : List UInt8 := dkwX14_has_0 ++ []
theorem dksX14_has_0 : cX14_has.data.toList.drop 0 = dktX14_has_0 := by decide +kernel
theorem dX14_has_0 : decode cX14_has 0 = .ok (.iload_n 0, 1) := dk_26 (dk_at dksX14_has_0 0 rfl rfl)
theorem dX14_has_1 : decode cX14_has 1 = .ok (.iload_n 1, 1) := dk_27 (dk_at dksX14_has_0 1 rfl rfl)
theorem dX14_has_2 : decode cX14_has 2 = .ok (.ishr, 1) := dk_122 (dk_at dksX14_has_0 2 rfl rfl)
theorem dX14_has_3 : decode cX14_has 3 = .ok (.iconst 1, 1) := dk_4 (dk_at dksX14_has_0 3 rfl rfl)
theorem dX14_has_4 : decode cX14_has 4 = .ok (.iand, 1) := dk_126 (dk_at dksX14_has_0 4 rfl rfl)
theorem dX14_has_5 : decode cX14_has 5 = .ok (.iconst 1, 1) := dk_4 (dk_at dksX14_has_0 5 rfl rfl)
theorem dX14_has_6 : decode cX14_has 6 = .ok (.if_icmp .ne 7, 3) := dk_160 0 7 (dk_at dksX14_has_0 6 rfl rfl)
theorem dX14_has_9 : decode cX14_has 9 = .ok (.iconst 1, 1) := dk_4 (dk_at dksX14_has_0 9 rfl rfl)
theorem dX14_has_10 : decode cX14_has 10 = .ok (.goto 4, 3) := dk_167 0 4 (dk_at dksX14_has_0 10 rfl rfl)
theorem dX14_has_13 : decode cX14_has 13 = .ok (.iconst 0, 1) := dk_3 (dk_at dksX14_has_0 13 rfl rfl)
theorem dX14_has_14 : decode cX14_has 14 = .ok (.ireturn, 1) := dk_172 (dk_at dksX14_has_0 14 rfl rfl)
abbrev cX14_readInto : ByteArray := prog_23_method_35_code
def yX14_readInto : MethodName := ⟨RX14, "readInto", "(III)Z"⟩
def dkwX14_readInto_0 : List UInt8 := [42, 28, 29, 182, 0, 251, 154, 0, 5, 3, 172, 42, 180, 0, 16, 27, 42, 180, 0, 223, 79, 4, 172]
abbrev dktX14_readInto_0 : List UInt8 := dkwX14_readInto_0 ++ []
theorem dksX14_readInto_0 : cX14_readInto.data.toList.drop 0 = dktX14_readInto_0 := by decide +kernel
theorem dX14_readInto_0 : decode cX14_readInto 0 = .ok (.aload_n 0, 1) := dk_42 (dk_at dksX14_readInto_0 0 rfl rfl)
theorem dX14_readInto_1 : decode cX14_readInto 1 = .ok (.iload_n 2, 1) := dk_28 (dk_at dksX14_readInto_0 1 rfl rfl)
theorem dX14_readInto_2 : decode cX14_readInto 2 = .ok (.iload_n 3, 1) := dk_29 (dk_at dksX14_readInto_0 2 rfl rfl)
theorem dX14_readInto_3 : decode cX14_readInto 3 = .ok (.invokevirtual 251, 3) := dk_182 0 251 (dk_at dksX14_readInto_0 3 rfl rfl)
theorem dX14_readInto_6 : decode cX14_readInto 6 = .ok (.ifCond .ne 5, 3) := dk_154 0 5 (dk_at dksX14_readInto_0 6 rfl rfl)
theorem dX14_readInto_9 : decode cX14_readInto 9 = .ok (.iconst 0, 1) := dk_3 (dk_at dksX14_readInto_0 9 rfl rfl)
theorem dX14_readInto_10 : decode cX14_readInto 10 = .ok (.ireturn, 1) := dk_172 (dk_at dksX14_readInto_0 10 rfl rfl)
theorem dX14_readInto_11 : decode cX14_readInto 11 = .ok (.aload_n 0, 1) := dk_42 (dk_at dksX14_readInto_0 11 rfl rfl)
theorem dX14_readInto_12 : decode cX14_readInto 12 = .ok (.getfield 16, 3) := dk_180 0 16 (dk_at dksX14_readInto_0 12 rfl rfl)
theorem dX14_readInto_15 : decode cX14_readInto 15 = .ok (.iload_n 1, 1) := dk_27 (dk_at dksX14_readInto_0 15 rfl rfl)
theorem dX14_readInto_16 : decode cX14_readInto 16 = .ok (.aload_n 0, 1) := dk_42 (dk_at dksX14_readInto_0 16 rfl rfl)
theorem dX14_readInto_17 : decode cX14_readInto 17 = .ok (.getfield 223, 3) := dk_180 0 223 (dk_at dksX14_readInto_0 17 rfl rfl)
theorem dX14_readInto_20 : decode cX14_readInto 20 = .ok (.iastore, 1) := dk_79 (dk_at dksX14_readInto_0 20 rfl rfl)
theorem dX14_readInto_21 : decode cX14_readInto 21 = .ok (.iconst 1, 1) := dk_4 (dk_at dksX14_readInto_0 21 rfl rfl)
theorem dX14_readInto_22 : decode cX14_readInto 22 = .ok (.ireturn, 1) := dk_172 (dk_at dksX14_readInto_0 22 rfl rfl)
abbrev cX14_readEnd : ByteArray := prog_23_method_23_code
def yX14_readEnd : MethodName := ⟨RX14, "readEnd", "()Z"⟩
def dkwX14_readEnd_0 : List UInt8 := [42, 16, 59, 182, 0, 229, 154, 0, 9, 42, 4, 182, 0, 216, 172, 42, 182, 0, 226, 4, 172]
abbrev dktX14_readEnd_0 : List UInt8 := dkwX14_readEnd_0 ++ []
theorem dksX14_readEnd_0 : cX14_readEnd.data.toList.drop 0 = dktX14_readEnd_0 := by decide +kernel
theorem dX14_readEnd_0 : decode cX14_readEnd 0 = .ok (.aload_n 0, 1) := dk_42 (dk_at dksX14_readEnd_0 0 rfl rfl)
theorem dX14_readEnd_1 : decode cX14_readEnd 1 = .ok (.bipush 59, 2) := dk_16 59 (dk_at dksX14_readEnd_0 1 rfl rfl)
theorem dX14_readEnd_3 : decode cX14_readEnd 3 = .ok (.invokevirtual 229, 3) := dk_182 0 229 (dk_at dksX14_readEnd_0 3 rfl rfl)
theorem dX14_readEnd_6 : decode cX14_readEnd 6 = .ok (.ifCond .ne 9, 3) := dk_154 0 9 (dk_at dksX14_readEnd_0 6 rfl rfl)
theorem dX14_readEnd_9 : decode cX14_readEnd 9 = .ok (.aload_n 0, 1) := dk_42 (dk_at dksX14_readEnd_0 9 rfl rfl)
theorem dX14_readEnd_10 : decode cX14_readEnd 10 = .ok (.iconst 1, 1) := dk_4 (dk_at dksX14_readEnd_0 10 rfl rfl)
theorem dX14_readEnd_11 : decode cX14_readEnd 11 = .ok (.invokevirtual 216, 3) := dk_182 0 216 (dk_at dksX14_readEnd_0 11 rfl rfl)
theorem dX14_readEnd_14 : decode cX14_readEnd 14 = .ok (.ireturn, 1) := dk_172 (dk_at dksX14_readEnd_0 14 rfl rfl)
theorem dX14_readEnd_15 : decode cX14_readEnd 15 = .ok (.aload_n 0, 1) := dk_42 (dk_at dksX14_readEnd_0 15 rfl rfl)
theorem dX14_readEnd_16 : decode cX14_readEnd 16 = .ok (.invokevirtual 226, 3) := dk_182 0 226 (dk_at dksX14_readEnd_0 16 rfl rfl)
theorem dX14_readEnd_19 : decode cX14_readEnd 19 = .ok (.iconst 1, 1) := dk_4 (dk_at dksX14_readEnd_0 19 rfl rfl)
theorem dX14_readEnd_20 : decode cX14_readEnd 20 = .ok (.ireturn, 1) := dk_172 (dk_at dksX14_readEnd_0 20 rfl rfl)
abbrev cX14_isSign : ByteArray := prog_23_method_19_code
def yX14_isSign : MethodName := ⟨RX14, "isSign", "(I)Z"⟩
def dkwX14_isSign_0 : List UInt8 := [42, 180, 0, 170, 7, 160, 0, 15, 42, 180, 0, 180, 27, 160, 0, 7, 4, 167, 0, 4, 3, 172]
abbrev dktX14_isSign_0 : List UInt8 := dkwX14_isSign_0 ++ []
theorem dksX14_isSign_0 : cX14_isSign.data.toList.drop 0 = dktX14_isSign_0 := by decide +kernel
theorem dX14_isSign_0 : decode cX14_isSign 0 = .ok (.aload_n 0, 1) := dk_42 (dk_at dksX14_isSign_0 0 rfl rfl)
theorem dX14_isSign_1 : decode cX14_isSign 1 = .ok (.getfield 170, 3) := dk_180 0 170 (dk_at dksX14_isSign_0 1 rfl rfl)
theorem dX14_isSign_4 : decode cX14_isSign 4 = .ok (.iconst 4, 1) := dk_7 (dk_at dksX14_isSign_0 4 rfl rfl)
theorem dX14_isSign_5 : decode cX14_isSign 5 = .ok (.if_icmp .ne 15, 3) := dk_160 0 15 (dk_at dksX14_isSign_0 5 rfl rfl)
theorem dX14_isSign_8 : decode cX14_isSign 8 = .ok (.aload_n 0, 1) := dk_42 (dk_at dksX14_isSign_0 8 rfl rfl)
theorem dX14_isSign_9 : decode cX14_isSign 9 = .ok (.getfield 180, 3) := dk_180 0 180 (dk_at dksX14_isSign_0 9 rfl rfl)
theorem dX14_isSign_12 : decode cX14_isSign 12 = .ok (.iload_n 1, 1) := dk_27 (dk_at dksX14_isSign_0 12 rfl rfl)
theorem dX14_isSign_13 : decode cX14_isSign 13 = .ok (.if_icmp .ne 7, 3) := dk_160 0 7 (dk_at dksX14_isSign_0 13 rfl rfl)
theorem dX14_isSign_16 : decode cX14_isSign 16 = .ok (.iconst 1, 1) := dk_4 (dk_at dksX14_isSign_0 16 rfl rfl)
theorem dX14_isSign_17 : decode cX14_isSign 17 = .ok (.goto 4, 3) := dk_167 0 4 (dk_at dksX14_isSign_0 17 rfl rfl)
theorem dX14_isSign_20 : decode cX14_isSign 20 = .ok (.iconst 0, 1) := dk_3 (dk_at dksX14_isSign_0 20 rfl rfl)
theorem dX14_isSign_21 : decode cX14_isSign 21 = .ok (.ireturn, 1) := dk_172 (dk_at dksX14_isSign_0 21 rfl rfl)
abbrev cX14_fault : ByteArray := prog_23_method_38_code
def yX14_fault : MethodName := ⟨RX14, "fault", "()I"⟩
def dkwX14_fault_0 : List UInt8 := [42, 3, 181, 0, 148, 42, 180, 0, 210, 172]
abbrev dktX14_fault_0 : List UInt8 := dkwX14_fault_0 ++ []
theorem dksX14_fault_0 : cX14_fault.data.toList.drop 0 = dktX14_fault_0 := by decide +kernel
theorem dX14_fault_0 : decode cX14_fault 0 = .ok (.aload_n 0, 1) := dk_42 (dk_at dksX14_fault_0 0 rfl rfl)
theorem dX14_fault_1 : decode cX14_fault 1 = .ok (.iconst 0, 1) := dk_3 (dk_at dksX14_fault_0 1 rfl rfl)
theorem dX14_fault_2 : decode cX14_fault 2 = .ok (.putfield 148, 3) := dk_181 0 148 (dk_at dksX14_fault_0 2 rfl rfl)
theorem dX14_fault_5 : decode cX14_fault 5 = .ok (.aload_n 0, 1) := dk_42 (dk_at dksX14_fault_0 5 rfl rfl)
theorem dX14_fault_6 : decode cX14_fault 6 = .ok (.getfield 210, 3) := dk_180 0 210 (dk_at dksX14_fault_0 6 rfl rfl)
theorem dX14_fault_9 : decode cX14_fault 9 = .ok (.ireturn, 1) := dk_172 (dk_at dksX14_fault_0 9 rfl rfl)
abbrev cX14_man : ByteArray := prog_23_method_39_code
def yX14_man : MethodName := ⟨RX14, "man", "(II)I"⟩
def dkwX14_man_1 : List UInt8 := [154, 0, 8, 42, 182, 1, 35, 172, 42, 3, 181, 0, 148, 42, 27, 28, 182, 1, 38, 172]
abbrev dktX14_man_1 : List UInt8 := dkwX14_man_1 ++ []
def dkwX14_man_0 : List UInt8 := [42, 182, 0, 232, 27, 155, 0, 20, 27, 42, 182, 1, 32, 162, 0, 12, 28, 3, 5, 184, 0, 219]
abbrev dktX14_man_0 : List UInt8 := dkwX14_man_0 ++ dktX14_man_1
theorem dksX14_man_0 : cX14_man.data.toList.drop 0 = dktX14_man_0 := by decide +kernel
theorem dksX14_man_1 : cX14_man.data.toList.drop 22 = dktX14_man_1 := dk_seg dksX14_man_0 22 rfl rfl
theorem dX14_man_0 : decode cX14_man 0 = .ok (.aload_n 0, 1) := dk_42 (dk_at dksX14_man_0 0 rfl rfl)
theorem dX14_man_1 : decode cX14_man 1 = .ok (.invokevirtual 232, 3) := dk_182 0 232 (dk_at dksX14_man_0 1 rfl rfl)
theorem dX14_man_4 : decode cX14_man 4 = .ok (.iload_n 1, 1) := dk_27 (dk_at dksX14_man_0 4 rfl rfl)
theorem dX14_man_5 : decode cX14_man 5 = .ok (.ifCond .lt 20, 3) := dk_155 0 20 (dk_at dksX14_man_0 5 rfl rfl)
theorem dX14_man_8 : decode cX14_man 8 = .ok (.iload_n 1, 1) := dk_27 (dk_at dksX14_man_0 8 rfl rfl)
theorem dX14_man_9 : decode cX14_man 9 = .ok (.aload_n 0, 1) := dk_42 (dk_at dksX14_man_0 9 rfl rfl)
theorem dX14_man_10 : decode cX14_man 10 = .ok (.invokevirtual 288, 3) := dk_182 1 32 (dk_at dksX14_man_0 10 rfl rfl)
theorem dX14_man_13 : decode cX14_man 13 = .ok (.if_icmp .ge 12, 3) := dk_162 0 12 (dk_at dksX14_man_0 13 rfl rfl)
theorem dX14_man_16 : decode cX14_man 16 = .ok (.iload_n 2, 1) := dk_28 (dk_at dksX14_man_0 16 rfl rfl)
theorem dX14_man_17 : decode cX14_man 17 = .ok (.iconst 0, 1) := dk_3 (dk_at dksX14_man_0 17 rfl rfl)
theorem dX14_man_18 : decode cX14_man 18 = .ok (.iconst 2, 1) := dk_5 (dk_at dksX14_man_0 18 rfl rfl)
theorem dX14_man_19 : decode cX14_man 19 = .ok (.invokestatic 219, 3) := dk_184 0 219 (dk_at dksX14_man_0 19 rfl rfl)
theorem dX14_man_22 : decode cX14_man 22 = .ok (.ifCond .ne 8, 3) := dk_154 0 8 (dk_at dksX14_man_1 0 rfl rfl)
theorem dX14_man_25 : decode cX14_man 25 = .ok (.aload_n 0, 1) := dk_42 (dk_at dksX14_man_1 3 rfl rfl)
theorem dX14_man_26 : decode cX14_man 26 = .ok (.invokevirtual 291, 3) := dk_182 1 35 (dk_at dksX14_man_1 4 rfl rfl)
theorem dX14_man_29 : decode cX14_man 29 = .ok (.ireturn, 1) := dk_172 (dk_at dksX14_man_1 7 rfl rfl)
theorem dX14_man_30 : decode cX14_man 30 = .ok (.aload_n 0, 1) := dk_42 (dk_at dksX14_man_1 8 rfl rfl)
theorem dX14_man_31 : decode cX14_man 31 = .ok (.iconst 0, 1) := dk_3 (dk_at dksX14_man_1 9 rfl rfl)
theorem dX14_man_32 : decode cX14_man 32 = .ok (.putfield 148, 3) := dk_181 0 148 (dk_at dksX14_man_1 10 rfl rfl)
theorem dX14_man_35 : decode cX14_man 35 = .ok (.aload_n 0, 1) := dk_42 (dk_at dksX14_man_1 13 rfl rfl)
theorem dX14_man_36 : decode cX14_man 36 = .ok (.iload_n 1, 1) := dk_27 (dk_at dksX14_man_1 14 rfl rfl)
theorem dX14_man_37 : decode cX14_man 37 = .ok (.iload_n 2, 1) := dk_28 (dk_at dksX14_man_1 15 rfl rfl)
theorem dX14_man_38 : decode cX14_man 38 = .ok (.invokevirtual 294, 3) := dk_182 1 38 (dk_at dksX14_man_1 16 rfl rfl)
theorem dX14_man_41 : decode cX14_man 41 = .ok (.ireturn, 1) := dk_172 (dk_at dksX14_man_1 19 rfl rfl)
abbrev cX14_men : ByteArray := prog_23_method_27_code
def yX14_men : MethodName := ⟨RX14, "men", "()I"⟩
def dkwX14_men_0 : List UInt8 := [42, 180, 0, 13, 3, 46, 172]
abbrev dktX14_men_0 : List UInt8 := dkwX14_men_0 ++ []
theorem dksX14_men_0 : cX14_men.data.toList.drop 0 = dktX14_men_0 := by decide +kernel
theorem dX14_men_0 : decode cX14_men 0 = .ok (.aload_n 0, 1) := dk_42 (dk_at dksX14_men_0 0 rfl rfl)
theorem dX14_men_1 : decode cX14_men 1 = .ok (.getfield 13, 3) := dk_180 0 13 (dk_at dksX14_men_0 1 rfl rfl)
theorem dX14_men_4 : decode cX14_men 4 = .ok (.iconst 0, 1) := dk_3 (dk_at dksX14_men_0 4 rfl rfl)
theorem dX14_men_5 : decode cX14_men 5 = .ok (.iaload, 1) := dk_46 (dk_at dksX14_men_0 5 rfl rfl)
theorem dX14_men_6 : decode cX14_men 6 = .ok (.ireturn, 1) := dk_172 (dk_at dksX14_men_0 6 rfl rfl)
abbrev cX14_refuse : ByteArray := prog_23_method_3_code
def yX14_refuse : MethodName := ⟨RX14, "refuse", "()I"⟩
def dkwX14_refuse_0 : List UInt8 := [42, 4, 181, 0, 148, 3, 172]
abbrev dktX14_refuse_0 : List UInt8 := dkwX14_refuse_0 ++ []
theorem dksX14_refuse_0 : cX14_refuse.data.toList.drop 0 = dktX14_refuse_0 := by decide +kernel
theorem dX14_refuse_0 : decode cX14_refuse 0 = .ok (.aload_n 0, 1) := dk_42 (dk_at dksX14_refuse_0 0 rfl rfl)
theorem dX14_refuse_1 : decode cX14_refuse 1 = .ok (.iconst 1, 1) := dk_4 (dk_at dksX14_refuse_0 1 rfl rfl)
theorem dX14_refuse_2 : decode cX14_refuse 2 = .ok (.putfield 148, 3) := dk_181 0 148 (dk_at dksX14_refuse_0 2 rfl rfl)
theorem dX14_refuse_5 : decode cX14_refuse 5 = .ok (.iconst 0, 1) := dk_3 (dk_at dksX14_refuse_0 5 rfl rfl)
theorem dX14_refuse_6 : decode cX14_refuse 6 = .ok (.ireturn, 1) := dk_172 (dk_at dksX14_refuse_0 6 rfl rfl)
abbrev cX14_manOf : ByteArray := prog_23_method_28_code
def yX14_manOf : MethodName := ⟨RX14, "manOf", "(II)I"⟩
def dkwX14_manOf_0 : List UInt8 := [42, 180, 0, 13, 16, 20, 6, 27, 104, 96, 28, 96, 46, 172]
abbrev dktX14_manOf_0 : List UInt8 := dkwX14_manOf_0 ++ []
theorem dksX14_manOf_0 : cX14_manOf.data.toList.drop 0 = dktX14_manOf_0 := by decide +kernel
theorem dX14_manOf_0 : decode cX14_manOf 0 = .ok (.aload_n 0, 1) := dk_42 (dk_at dksX14_manOf_0 0 rfl rfl)
theorem dX14_manOf_1 : decode cX14_manOf 1 = .ok (.getfield 13, 3) := dk_180 0 13 (dk_at dksX14_manOf_0 1 rfl rfl)
theorem dX14_manOf_4 : decode cX14_manOf 4 = .ok (.bipush 20, 2) := dk_16 20 (dk_at dksX14_manOf_0 4 rfl rfl)
theorem dX14_manOf_6 : decode cX14_manOf 6 = .ok (.iconst 3, 1) := dk_6 (dk_at dksX14_manOf_0 6 rfl rfl)
theorem dX14_manOf_7 : decode cX14_manOf 7 = .ok (.iload_n 1, 1) := dk_27 (dk_at dksX14_manOf_0 7 rfl rfl)
theorem dX14_manOf_8 : decode cX14_manOf 8 = .ok (.imul, 1) := dk_104 (dk_at dksX14_manOf_0 8 rfl rfl)
theorem dX14_manOf_9 : decode cX14_manOf 9 = .ok (.iadd, 1) := dk_96 (dk_at dksX14_manOf_0 9 rfl rfl)
theorem dX14_manOf_10 : decode cX14_manOf 10 = .ok (.iload_n 2, 1) := dk_28 (dk_at dksX14_manOf_0 10 rfl rfl)
theorem dX14_manOf_11 : decode cX14_manOf 11 = .ok (.iadd, 1) := dk_96 (dk_at dksX14_manOf_0 11 rfl rfl)
theorem dX14_manOf_12 : decode cX14_manOf 12 = .ok (.iaload, 1) := dk_46 (dk_at dksX14_manOf_0 12 rfl rfl)
theorem dX14_manOf_13 : decode cX14_manOf 13 = .ok (.ireturn, 1) := dk_172 (dk_at dksX14_manOf_0 13 rfl rfl)
abbrev cX14_cell : ByteArray := prog_23_method_40_code
def yX14_cell : MethodName := ⟨RX14, "cell", "(III)I"⟩
def dkwX14_cell_3 : List UInt8 := [28, 104, 96, 27, 96, 46, 172]
abbrev dktX14_cell_3 : List UInt8 := dkwX14_cell_3 ++ []
def dkwX14_cell_2 : List UInt8 := [3, 181, 0, 148, 42, 180, 0, 13, 29, 154, 0, 8, 16, 60, 167, 0, 6, 17, 0, 130, 42, 182, 1, 42]
abbrev dktX14_cell_2 : List UInt8 := dkwX14_cell_2 ++ dktX14_cell_3
def dkwX14_cell_1 : List UInt8 := [180, 0, 13, 16, 10, 46, 162, 0, 12, 29, 3, 4, 184, 0, 219, 154, 0, 8, 42, 182, 1, 35, 172, 42]
abbrev dktX14_cell_1 : List UInt8 := dkwX14_cell_1 ++ dktX14_cell_2
def dkwX14_cell_0 : List UInt8 := [42, 182, 0, 232, 27, 155, 0, 35, 27, 42, 182, 1, 42, 162, 0, 27, 28, 155, 0, 23, 28, 42]
abbrev dktX14_cell_0 : List UInt8 := dkwX14_cell_0 ++ dktX14_cell_1
theorem dksX14_cell_0 : cX14_cell.data.toList.drop 0 = dktX14_cell_0 := by decide +kernel
theorem dksX14_cell_1 : cX14_cell.data.toList.drop 22 = dktX14_cell_1 := dk_seg dksX14_cell_0 22 rfl rfl
theorem dksX14_cell_2 : cX14_cell.data.toList.drop 46 = dktX14_cell_2 := dk_seg dksX14_cell_1 24 rfl rfl
theorem dksX14_cell_3 : cX14_cell.data.toList.drop 70 = dktX14_cell_3 := dk_seg dksX14_cell_2 24 rfl rfl
theorem dX14_cell_0 : decode cX14_cell 0 = .ok (.aload_n 0, 1) := dk_42 (dk_at dksX14_cell_0 0 rfl rfl)
theorem dX14_cell_1 : decode cX14_cell 1 = .ok (.invokevirtual 232, 3) := dk_182 0 232 (dk_at dksX14_cell_0 1 rfl rfl)
theorem dX14_cell_4 : decode cX14_cell 4 = .ok (.iload_n 1, 1) := dk_27 (dk_at dksX14_cell_0 4 rfl rfl)
theorem dX14_cell_5 : decode cX14_cell 5 = .ok (.ifCond .lt 35, 3) := dk_155 0 35 (dk_at dksX14_cell_0 5 rfl rfl)
theorem dX14_cell_8 : decode cX14_cell 8 = .ok (.iload_n 1, 1) := dk_27 (dk_at dksX14_cell_0 8 rfl rfl)
theorem dX14_cell_9 : decode cX14_cell 9 = .ok (.aload_n 0, 1) := dk_42 (dk_at dksX14_cell_0 9 rfl rfl)
theorem dX14_cell_10 : decode cX14_cell 10 = .ok (.invokevirtual 298, 3) := dk_182 1 42 (dk_at dksX14_cell_0 10 rfl rfl)
theorem dX14_cell_13 : decode cX14_cell 13 = .ok (.if_icmp .ge 27, 3) := dk_162 0 27 (dk_at dksX14_cell_0 13 rfl rfl)
theorem dX14_cell_16 : decode cX14_cell 16 = .ok (.iload_n 2, 1) := dk_28 (dk_at dksX14_cell_0 16 rfl rfl)
theorem dX14_cell_17 : decode cX14_cell 17 = .ok (.ifCond .lt 23, 3) := dk_155 0 23 (dk_at dksX14_cell_0 17 rfl rfl)
theorem dX14_cell_20 : decode cX14_cell 20 = .ok (.iload_n 2, 1) := dk_28 (dk_at dksX14_cell_0 20 rfl rfl)
theorem dX14_cell_21 : decode cX14_cell 21 = .ok (.aload_n 0, 1) := dk_42 (dk_at dksX14_cell_0 21 rfl rfl)
theorem dX14_cell_22 : decode cX14_cell 22 = .ok (.getfield 13, 3) := dk_180 0 13 (dk_at dksX14_cell_1 0 rfl rfl)
theorem dX14_cell_25 : decode cX14_cell 25 = .ok (.bipush 10, 2) := dk_16 10 (dk_at dksX14_cell_1 3 rfl rfl)
theorem dX14_cell_27 : decode cX14_cell 27 = .ok (.iaload, 1) := dk_46 (dk_at dksX14_cell_1 5 rfl rfl)
theorem dX14_cell_28 : decode cX14_cell 28 = .ok (.if_icmp .ge 12, 3) := dk_162 0 12 (dk_at dksX14_cell_1 6 rfl rfl)
theorem dX14_cell_31 : decode cX14_cell 31 = .ok (.iload_n 3, 1) := dk_29 (dk_at dksX14_cell_1 9 rfl rfl)
theorem dX14_cell_32 : decode cX14_cell 32 = .ok (.iconst 0, 1) := dk_3 (dk_at dksX14_cell_1 10 rfl rfl)
theorem dX14_cell_33 : decode cX14_cell 33 = .ok (.iconst 1, 1) := dk_4 (dk_at dksX14_cell_1 11 rfl rfl)
theorem dX14_cell_34 : decode cX14_cell 34 = .ok (.invokestatic 219, 3) := dk_184 0 219 (dk_at dksX14_cell_1 12 rfl rfl)
theorem dX14_cell_37 : decode cX14_cell 37 = .ok (.ifCond .ne 8, 3) := dk_154 0 8 (dk_at dksX14_cell_1 15 rfl rfl)
theorem dX14_cell_40 : decode cX14_cell 40 = .ok (.aload_n 0, 1) := dk_42 (dk_at dksX14_cell_1 18 rfl rfl)
theorem dX14_cell_41 : decode cX14_cell 41 = .ok (.invokevirtual 291, 3) := dk_182 1 35 (dk_at dksX14_cell_1 19 rfl rfl)
theorem dX14_cell_44 : decode cX14_cell 44 = .ok (.ireturn, 1) := dk_172 (dk_at dksX14_cell_1 22 rfl rfl)
theorem dX14_cell_45 : decode cX14_cell 45 = .ok (.aload_n 0, 1) := dk_42 (dk_at dksX14_cell_1 23 rfl rfl)
theorem dX14_cell_46 : decode cX14_cell 46 = .ok (.iconst 0, 1) := dk_3 (dk_at dksX14_cell_2 0 rfl rfl)
theorem dX14_cell_47 : decode cX14_cell 47 = .ok (.putfield 148, 3) := dk_181 0 148 (dk_at dksX14_cell_2 1 rfl rfl)
theorem dX14_cell_50 : decode cX14_cell 50 = .ok (.aload_n 0, 1) := dk_42 (dk_at dksX14_cell_2 4 rfl rfl)
theorem dX14_cell_51 : decode cX14_cell 51 = .ok (.getfield 13, 3) := dk_180 0 13 (dk_at dksX14_cell_2 5 rfl rfl)
theorem dX14_cell_54 : decode cX14_cell 54 = .ok (.iload_n 3, 1) := dk_29 (dk_at dksX14_cell_2 8 rfl rfl)
theorem dX14_cell_55 : decode cX14_cell 55 = .ok (.ifCond .ne 8, 3) := dk_154 0 8 (dk_at dksX14_cell_2 9 rfl rfl)
theorem dX14_cell_58 : decode cX14_cell 58 = .ok (.bipush 60, 2) := dk_16 60 (dk_at dksX14_cell_2 12 rfl rfl)
theorem dX14_cell_60 : decode cX14_cell 60 = .ok (.goto 6, 3) := dk_167 0 6 (dk_at dksX14_cell_2 14 rfl rfl)
theorem dX14_cell_63 : decode cX14_cell 63 = .ok (.sipush 130, 3) := dk_17 0 130 (dk_at dksX14_cell_2 17 rfl rfl)
theorem dX14_cell_66 : decode cX14_cell 66 = .ok (.aload_n 0, 1) := dk_42 (dk_at dksX14_cell_2 20 rfl rfl)
theorem dX14_cell_67 : decode cX14_cell 67 = .ok (.invokevirtual 298, 3) := dk_182 1 42 (dk_at dksX14_cell_2 21 rfl rfl)
theorem dX14_cell_70 : decode cX14_cell 70 = .ok (.iload_n 2, 1) := dk_28 (dk_at dksX14_cell_3 0 rfl rfl)
theorem dX14_cell_71 : decode cX14_cell 71 = .ok (.imul, 1) := dk_104 (dk_at dksX14_cell_3 1 rfl rfl)
theorem dX14_cell_72 : decode cX14_cell 72 = .ok (.iadd, 1) := dk_96 (dk_at dksX14_cell_3 2 rfl rfl)
theorem dX14_cell_73 : decode cX14_cell 73 = .ok (.iload_n 1, 1) := dk_27 (dk_at dksX14_cell_3 3 rfl rfl)
theorem dX14_cell_74 : decode cX14_cell 74 = .ok (.iadd, 1) := dk_96 (dk_at dksX14_cell_3 4 rfl rfl)
theorem dX14_cell_75 : decode cX14_cell 75 = .ok (.iaload, 1) := dk_46 (dk_at dksX14_cell_3 5 rfl rfl)
theorem dX14_cell_76 : decode cX14_cell 76 = .ok (.ireturn, 1) := dk_172 (dk_at dksX14_cell_3 6 rfl rfl)
abbrev cX14_columns : ByteArray := prog_23_method_29_code
def yX14_columns : MethodName := ⟨RX14, "columns", "()I"⟩
def dkwX14_columns_0 : List UInt8 := [42, 180, 0, 13, 16, 9, 46, 172]
abbrev dktX14_columns_0 : List UInt8 := dkwX14_columns_0 ++ []
theorem dksX14_columns_0 : cX14_columns.data.toList.drop 0 = dktX14_columns_0 := by decide +kernel
theorem dX14_columns_0 : decode cX14_columns 0 = .ok (.aload_n 0, 1) := dk_42 (dk_at dksX14_columns_0 0 rfl rfl)
theorem dX14_columns_1 : decode cX14_columns 1 = .ok (.getfield 13, 3) := dk_180 0 13 (dk_at dksX14_columns_0 1 rfl rfl)
theorem dX14_columns_4 : decode cX14_columns 4 = .ok (.bipush 9, 2) := dk_16 9 (dk_at dksX14_columns_0 4 rfl rfl)
theorem dX14_columns_6 : decode cX14_columns 6 = .ok (.iaload, 1) := dk_46 (dk_at dksX14_columns_0 6 rfl rfl)
theorem dX14_columns_7 : decode cX14_columns 7 = .ok (.ireturn, 1) := dk_172 (dk_at dksX14_columns_0 7 rfl rfl)
abbrev cX14_row : ByteArray := prog_23_method_55_code
def yX14_row : MethodName := ⟨RX14, "row", "(I)I"⟩
def dkwX14_row_9 : List UInt8 := [42, 180, 0, 66, 8, 21, 5, 79, 28, 172]
abbrev dktX14_row_9 : List UInt8 := dkwX14_row_9 ++ []
def dkwX14_row_8 : List UInt8 := [180, 1, 69, 79, 42, 180, 0, 66, 6, 42, 180, 1, 63, 79, 42, 180, 0, 66, 7, 42, 180, 1, 66, 79]
abbrev dktX14_row_8 : List UInt8 := dkwX14_row_8 ++ dktX14_row_9
def dkwX14_row_7 : List UInt8 := [181, 1, 124, 42, 180, 0, 66, 3, 29, 79, 42, 180, 0, 66, 4, 21, 4, 79, 42, 180, 0, 66, 5, 42]
abbrev dktX14_row_7 : List UInt8 := dkwX14_row_7 ++ dktX14_row_8
def dkwX14_row_6 : List UInt8 := [180, 0, 69, 21, 6, 42, 180, 0, 48, 21, 6, 46, 79, 132, 6, 1, 167, 255, 156, 42, 42, 180, 1, 48]
abbrev dktX14_row_6 : List UInt8 := dkwX14_row_6 ++ dktX14_row_7
def dkwX14_row_5 : List UInt8 := [180, 0, 51, 16, 30, 21, 6, 104, 21, 7, 96, 46, 96, 54, 5, 132, 7, 1, 167, 255, 223, 42]
abbrev dktX14_row_5 : List UInt8 := dkwX14_row_5 ++ dktX14_row_6
def dkwX14_row_4 : List UInt8 := [21, 6, 46, 96, 54, 5, 3, 54, 7, 21, 7, 42, 180, 0, 54, 21, 6, 46, 162, 0, 27, 21, 5, 42]
abbrev dktX14_row_4 : List UInt8 := dkwX14_row_4 ++ dktX14_row_5
def dkwX14_row_3 : List UInt8 := [46, 29, 164, 0, 15, 42, 180, 0, 57, 21, 6, 46, 62, 21, 6, 54, 4, 21, 5, 42, 180, 0, 45]
abbrev dktX14_row_3 : List UInt8 := dkwX14_row_3 ++ dktX14_row_4
def dkwX14_row_2 : List UInt8 := [3, 54, 4, 3, 54, 5, 3, 54, 6, 21, 6, 42, 180, 1, 48, 162, 0, 97, 42, 180, 0, 57, 21, 6]
abbrev dktX14_row_2 : List UInt8 := dkwX14_row_2 ++ dktX14_row_3
def dkwX14_row_1 : List UInt8 := [154, 0, 5, 2, 172, 42, 4, 42, 180, 1, 48, 42, 180, 0, 13, 8, 46, 27, 182, 1, 120, 61, 3, 62]
abbrev dktX14_row_1 : List UInt8 := dkwX14_row_1 ++ dktX14_row_2
def dkwX14_row_0 : List UInt8 := [42, 3, 181, 0, 148, 42, 5, 16, 12, 4, 182, 1, 116, 153, 0, 14, 27, 3, 17, 14, 16, 184, 0, 219]
abbrev dktX14_row_0 : List UInt8 := dkwX14_row_0 ++ dktX14_row_1
theorem dksX14_row_0 : cX14_row.data.toList.drop 0 = dktX14_row_0 := by decide +kernel
theorem dksX14_row_1 : cX14_row.data.toList.drop 24 = dktX14_row_1 := dk_seg dksX14_row_0 24 rfl rfl
theorem dksX14_row_2 : cX14_row.data.toList.drop 48 = dktX14_row_2 := dk_seg dksX14_row_1 24 rfl rfl
theorem dksX14_row_3 : cX14_row.data.toList.drop 72 = dktX14_row_3 := dk_seg dksX14_row_2 24 rfl rfl
theorem dksX14_row_4 : cX14_row.data.toList.drop 95 = dktX14_row_4 := dk_seg dksX14_row_3 23 rfl rfl
theorem dksX14_row_5 : cX14_row.data.toList.drop 119 = dktX14_row_5 := dk_seg dksX14_row_4 24 rfl rfl
theorem dksX14_row_6 : cX14_row.data.toList.drop 141 = dktX14_row_6 := dk_seg dksX14_row_5 22 rfl rfl
theorem dksX14_row_7 : cX14_row.data.toList.drop 165 = dktX14_row_7 := dk_seg dksX14_row_6 24 rfl rfl
theorem dksX14_row_8 : cX14_row.data.toList.drop 189 = dktX14_row_8 := dk_seg dksX14_row_7 24 rfl rfl
theorem dksX14_row_9 : cX14_row.data.toList.drop 213 = dktX14_row_9 := dk_seg dksX14_row_8 24 rfl rfl
theorem dX14_row_0 : decode cX14_row 0 = .ok (.aload_n 0, 1) := dk_42 (dk_at dksX14_row_0 0 rfl rfl)
theorem dX14_row_1 : decode cX14_row 1 = .ok (.iconst 0, 1) := dk_3 (dk_at dksX14_row_0 1 rfl rfl)
theorem dX14_row_2 : decode cX14_row 2 = .ok (.putfield 148, 3) := dk_181 0 148 (dk_at dksX14_row_0 2 rfl rfl)
theorem dX14_row_5 : decode cX14_row 5 = .ok (.aload_n 0, 1) := dk_42 (dk_at dksX14_row_0 5 rfl rfl)
theorem dX14_row_6 : decode cX14_row 6 = .ok (.iconst 2, 1) := dk_5 (dk_at dksX14_row_0 6 rfl rfl)
theorem dX14_row_7 : decode cX14_row 7 = .ok (.bipush 12, 2) := dk_16 12 (dk_at dksX14_row_0 7 rfl rfl)
theorem dX14_row_9 : decode cX14_row 9 = .ok (.iconst 1, 1) := dk_4 (dk_at dksX14_row_0 9 rfl rfl)
theorem dX14_row_10 : decode cX14_row 10 = .ok (.invokevirtual 372, 3) := dk_182 1 116 (dk_at dksX14_row_0 10 rfl rfl)
theorem dX14_row_13 : decode cX14_row 13 = .ok (.ifCond .eq 14, 3) := dk_153 0 14 (dk_at dksX14_row_0 13 rfl rfl)
theorem dX14_row_16 : decode cX14_row 16 = .ok (.iload_n 1, 1) := dk_27 (dk_at dksX14_row_0 16 rfl rfl)
theorem dX14_row_17 : decode cX14_row 17 = .ok (.iconst 0, 1) := dk_3 (dk_at dksX14_row_0 17 rfl rfl)
theorem dX14_row_18 : decode cX14_row 18 = .ok (.sipush 3600, 3) := dk_17 14 16 (dk_at dksX14_row_0 18 rfl rfl)
theorem dX14_row_21 : decode cX14_row 21 = .ok (.invokestatic 219, 3) := dk_184 0 219 (dk_at dksX14_row_0 21 rfl rfl)
theorem dX14_row_24 : decode cX14_row 24 = .ok (.ifCond .ne 5, 3) := dk_154 0 5 (dk_at dksX14_row_1 0 rfl rfl)
theorem dX14_row_27 : decode cX14_row 27 = .ok (.iconst (-1), 1) := dk_2 (dk_at dksX14_row_1 3 rfl rfl)
theorem dX14_row_28 : decode cX14_row 28 = .ok (.ireturn, 1) := dk_172 (dk_at dksX14_row_1 4 rfl rfl)
theorem dX14_row_29 : decode cX14_row 29 = .ok (.aload_n 0, 1) := dk_42 (dk_at dksX14_row_1 5 rfl rfl)
theorem dX14_row_30 : decode cX14_row 30 = .ok (.iconst 1, 1) := dk_4 (dk_at dksX14_row_1 6 rfl rfl)
theorem dX14_row_31 : decode cX14_row 31 = .ok (.aload_n 0, 1) := dk_42 (dk_at dksX14_row_1 7 rfl rfl)
theorem dX14_row_32 : decode cX14_row 32 = .ok (.getfield 304, 3) := dk_180 1 48 (dk_at dksX14_row_1 8 rfl rfl)
theorem dX14_row_35 : decode cX14_row 35 = .ok (.aload_n 0, 1) := dk_42 (dk_at dksX14_row_1 11 rfl rfl)
theorem dX14_row_36 : decode cX14_row 36 = .ok (.getfield 13, 3) := dk_180 0 13 (dk_at dksX14_row_1 12 rfl rfl)
theorem dX14_row_39 : decode cX14_row 39 = .ok (.iconst 5, 1) := dk_8 (dk_at dksX14_row_1 15 rfl rfl)
theorem dX14_row_40 : decode cX14_row 40 = .ok (.iaload, 1) := dk_46 (dk_at dksX14_row_1 16 rfl rfl)
theorem dX14_row_41 : decode cX14_row 41 = .ok (.iload_n 1, 1) := dk_27 (dk_at dksX14_row_1 17 rfl rfl)
theorem dX14_row_42 : decode cX14_row 42 = .ok (.invokevirtual 376, 3) := dk_182 1 120 (dk_at dksX14_row_1 18 rfl rfl)
theorem dX14_row_45 : decode cX14_row 45 = .ok (.istore_n 2, 1) := dk_61 (dk_at dksX14_row_1 21 rfl rfl)
theorem dX14_row_46 : decode cX14_row 46 = .ok (.iconst 0, 1) := dk_3 (dk_at dksX14_row_1 22 rfl rfl)
theorem dX14_row_47 : decode cX14_row 47 = .ok (.istore_n 3, 1) := dk_62 (dk_at dksX14_row_1 23 rfl rfl)
theorem dX14_row_48 : decode cX14_row 48 = .ok (.iconst 0, 1) := dk_3 (dk_at dksX14_row_2 0 rfl rfl)
theorem dX14_row_49 : decode cX14_row 49 = .ok (.istore 4, 2) := dk_54 4 (dk_at dksX14_row_2 1 rfl rfl)
theorem dX14_row_51 : decode cX14_row 51 = .ok (.iconst 0, 1) := dk_3 (dk_at dksX14_row_2 3 rfl rfl)
theorem dX14_row_52 : decode cX14_row 52 = .ok (.istore 5, 2) := dk_54 5 (dk_at dksX14_row_2 4 rfl rfl)
theorem dX14_row_54 : decode cX14_row 54 = .ok (.iconst 0, 1) := dk_3 (dk_at dksX14_row_2 6 rfl rfl)
theorem dX14_row_55 : decode cX14_row 55 = .ok (.istore 6, 2) := dk_54 6 (dk_at dksX14_row_2 7 rfl rfl)
theorem dX14_row_57 : decode cX14_row 57 = .ok (.iload 6, 2) := dk_21 6 (dk_at dksX14_row_2 9 rfl rfl)
theorem dX14_row_59 : decode cX14_row 59 = .ok (.aload_n 0, 1) := dk_42 (dk_at dksX14_row_2 11 rfl rfl)
theorem dX14_row_60 : decode cX14_row 60 = .ok (.getfield 304, 3) := dk_180 1 48 (dk_at dksX14_row_2 12 rfl rfl)
theorem dX14_row_63 : decode cX14_row 63 = .ok (.if_icmp .ge 97, 3) := dk_162 0 97 (dk_at dksX14_row_2 15 rfl rfl)
theorem dX14_row_66 : decode cX14_row 66 = .ok (.aload_n 0, 1) := dk_42 (dk_at dksX14_row_2 18 rfl rfl)
theorem dX14_row_67 : decode cX14_row 67 = .ok (.getfield 57, 3) := dk_180 0 57 (dk_at dksX14_row_2 19 rfl rfl)
theorem dX14_row_70 : decode cX14_row 70 = .ok (.iload 6, 2) := dk_21 6 (dk_at dksX14_row_2 22 rfl rfl)
theorem dX14_row_72 : decode cX14_row 72 = .ok (.iaload, 1) := dk_46 (dk_at dksX14_row_3 0 rfl rfl)
theorem dX14_row_73 : decode cX14_row 73 = .ok (.iload_n 3, 1) := dk_29 (dk_at dksX14_row_3 1 rfl rfl)
theorem dX14_row_74 : decode cX14_row 74 = .ok (.if_icmp .le 15, 3) := dk_164 0 15 (dk_at dksX14_row_3 2 rfl rfl)
theorem dX14_row_77 : decode cX14_row 77 = .ok (.aload_n 0, 1) := dk_42 (dk_at dksX14_row_3 5 rfl rfl)
theorem dX14_row_78 : decode cX14_row 78 = .ok (.getfield 57, 3) := dk_180 0 57 (dk_at dksX14_row_3 6 rfl rfl)
theorem dX14_row_81 : decode cX14_row 81 = .ok (.iload 6, 2) := dk_21 6 (dk_at dksX14_row_3 9 rfl rfl)
theorem dX14_row_83 : decode cX14_row 83 = .ok (.iaload, 1) := dk_46 (dk_at dksX14_row_3 11 rfl rfl)
theorem dX14_row_84 : decode cX14_row 84 = .ok (.istore_n 3, 1) := dk_62 (dk_at dksX14_row_3 12 rfl rfl)
theorem dX14_row_85 : decode cX14_row 85 = .ok (.iload 6, 2) := dk_21 6 (dk_at dksX14_row_3 13 rfl rfl)
theorem dX14_row_87 : decode cX14_row 87 = .ok (.istore 4, 2) := dk_54 4 (dk_at dksX14_row_3 15 rfl rfl)
theorem dX14_row_89 : decode cX14_row 89 = .ok (.iload 5, 2) := dk_21 5 (dk_at dksX14_row_3 17 rfl rfl)
theorem dX14_row_91 : decode cX14_row 91 = .ok (.aload_n 0, 1) := dk_42 (dk_at dksX14_row_3 19 rfl rfl)
theorem dX14_row_92 : decode cX14_row 92 = .ok (.getfield 45, 3) := dk_180 0 45 (dk_at dksX14_row_3 20 rfl rfl)
theorem dX14_row_95 : decode cX14_row 95 = .ok (.iload 6, 2) := dk_21 6 (dk_at dksX14_row_4 0 rfl rfl)
theorem dX14_row_97 : decode cX14_row 97 = .ok (.iaload, 1) := dk_46 (dk_at dksX14_row_4 2 rfl rfl)
theorem dX14_row_98 : decode cX14_row 98 = .ok (.iadd, 1) := dk_96 (dk_at dksX14_row_4 3 rfl rfl)
theorem dX14_row_99 : decode cX14_row 99 = .ok (.istore 5, 2) := dk_54 5 (dk_at dksX14_row_4 4 rfl rfl)
theorem dX14_row_101 : decode cX14_row 101 = .ok (.iconst 0, 1) := dk_3 (dk_at dksX14_row_4 6 rfl rfl)
theorem dX14_row_102 : decode cX14_row 102 = .ok (.istore 7, 2) := dk_54 7 (dk_at dksX14_row_4 7 rfl rfl)
theorem dX14_row_104 : decode cX14_row 104 = .ok (.iload 7, 2) := dk_21 7 (dk_at dksX14_row_4 9 rfl rfl)
theorem dX14_row_106 : decode cX14_row 106 = .ok (.aload_n 0, 1) := dk_42 (dk_at dksX14_row_4 11 rfl rfl)
theorem dX14_row_107 : decode cX14_row 107 = .ok (.getfield 54, 3) := dk_180 0 54 (dk_at dksX14_row_4 12 rfl rfl)
theorem dX14_row_110 : decode cX14_row 110 = .ok (.iload 6, 2) := dk_21 6 (dk_at dksX14_row_4 15 rfl rfl)
theorem dX14_row_112 : decode cX14_row 112 = .ok (.iaload, 1) := dk_46 (dk_at dksX14_row_4 17 rfl rfl)
theorem dX14_row_113 : decode cX14_row 113 = .ok (.if_icmp .ge 27, 3) := dk_162 0 27 (dk_at dksX14_row_4 18 rfl rfl)
theorem dX14_row_116 : decode cX14_row 116 = .ok (.iload 5, 2) := dk_21 5 (dk_at dksX14_row_4 21 rfl rfl)
theorem dX14_row_118 : decode cX14_row 118 = .ok (.aload_n 0, 1) := dk_42 (dk_at dksX14_row_4 23 rfl rfl)
theorem dX14_row_119 : decode cX14_row 119 = .ok (.getfield 51, 3) := dk_180 0 51 (dk_at dksX14_row_5 0 rfl rfl)
theorem dX14_row_122 : decode cX14_row 122 = .ok (.bipush 30, 2) := dk_16 30 (dk_at dksX14_row_5 3 rfl rfl)
theorem dX14_row_124 : decode cX14_row 124 = .ok (.iload 6, 2) := dk_21 6 (dk_at dksX14_row_5 5 rfl rfl)
theorem dX14_row_126 : decode cX14_row 126 = .ok (.imul, 1) := dk_104 (dk_at dksX14_row_5 7 rfl rfl)
theorem dX14_row_127 : decode cX14_row 127 = .ok (.iload 7, 2) := dk_21 7 (dk_at dksX14_row_5 8 rfl rfl)
theorem dX14_row_129 : decode cX14_row 129 = .ok (.iadd, 1) := dk_96 (dk_at dksX14_row_5 10 rfl rfl)
theorem dX14_row_130 : decode cX14_row 130 = .ok (.iaload, 1) := dk_46 (dk_at dksX14_row_5 11 rfl rfl)
theorem dX14_row_131 : decode cX14_row 131 = .ok (.iadd, 1) := dk_96 (dk_at dksX14_row_5 12 rfl rfl)
theorem dX14_row_132 : decode cX14_row 132 = .ok (.istore 5, 2) := dk_54 5 (dk_at dksX14_row_5 13 rfl rfl)
theorem dX14_row_134 : decode cX14_row 134 = .ok (.iinc 7 1, 3) := dk_132 7 1 (dk_at dksX14_row_5 15 rfl rfl)
theorem dX14_row_137 : decode cX14_row 137 = .ok (.goto (-33), 3) := dk_167 255 223 (dk_at dksX14_row_5 18 rfl rfl)
theorem dX14_row_140 : decode cX14_row 140 = .ok (.aload_n 0, 1) := dk_42 (dk_at dksX14_row_5 21 rfl rfl)
theorem dX14_row_141 : decode cX14_row 141 = .ok (.getfield 69, 3) := dk_180 0 69 (dk_at dksX14_row_6 0 rfl rfl)
theorem dX14_row_144 : decode cX14_row 144 = .ok (.iload 6, 2) := dk_21 6 (dk_at dksX14_row_6 3 rfl rfl)
theorem dX14_row_146 : decode cX14_row 146 = .ok (.aload_n 0, 1) := dk_42 (dk_at dksX14_row_6 5 rfl rfl)
theorem dX14_row_147 : decode cX14_row 147 = .ok (.getfield 48, 3) := dk_180 0 48 (dk_at dksX14_row_6 6 rfl rfl)
theorem dX14_row_150 : decode cX14_row 150 = .ok (.iload 6, 2) := dk_21 6 (dk_at dksX14_row_6 9 rfl rfl)
theorem dX14_row_152 : decode cX14_row 152 = .ok (.iaload, 1) := dk_46 (dk_at dksX14_row_6 11 rfl rfl)
theorem dX14_row_153 : decode cX14_row 153 = .ok (.iastore, 1) := dk_79 (dk_at dksX14_row_6 12 rfl rfl)
theorem dX14_row_154 : decode cX14_row 154 = .ok (.iinc 6 1, 3) := dk_132 6 1 (dk_at dksX14_row_6 13 rfl rfl)
theorem dX14_row_157 : decode cX14_row 157 = .ok (.goto (-100), 3) := dk_167 255 156 (dk_at dksX14_row_6 16 rfl rfl)
theorem dX14_row_160 : decode cX14_row 160 = .ok (.aload_n 0, 1) := dk_42 (dk_at dksX14_row_6 19 rfl rfl)
theorem dX14_row_161 : decode cX14_row 161 = .ok (.aload_n 0, 1) := dk_42 (dk_at dksX14_row_6 20 rfl rfl)
theorem dX14_row_162 : decode cX14_row 162 = .ok (.getfield 304, 3) := dk_180 1 48 (dk_at dksX14_row_6 21 rfl rfl)
theorem dX14_row_165 : decode cX14_row 165 = .ok (.putfield 380, 3) := dk_181 1 124 (dk_at dksX14_row_7 0 rfl rfl)
theorem dX14_row_168 : decode cX14_row 168 = .ok (.aload_n 0, 1) := dk_42 (dk_at dksX14_row_7 3 rfl rfl)
theorem dX14_row_169 : decode cX14_row 169 = .ok (.getfield 66, 3) := dk_180 0 66 (dk_at dksX14_row_7 4 rfl rfl)
theorem dX14_row_172 : decode cX14_row 172 = .ok (.iconst 0, 1) := dk_3 (dk_at dksX14_row_7 7 rfl rfl)
theorem dX14_row_173 : decode cX14_row 173 = .ok (.iload_n 3, 1) := dk_29 (dk_at dksX14_row_7 8 rfl rfl)
theorem dX14_row_174 : decode cX14_row 174 = .ok (.iastore, 1) := dk_79 (dk_at dksX14_row_7 9 rfl rfl)
theorem dX14_row_175 : decode cX14_row 175 = .ok (.aload_n 0, 1) := dk_42 (dk_at dksX14_row_7 10 rfl rfl)
theorem dX14_row_176 : decode cX14_row 176 = .ok (.getfield 66, 3) := dk_180 0 66 (dk_at dksX14_row_7 11 rfl rfl)
theorem dX14_row_179 : decode cX14_row 179 = .ok (.iconst 1, 1) := dk_4 (dk_at dksX14_row_7 14 rfl rfl)
theorem dX14_row_180 : decode cX14_row 180 = .ok (.iload 4, 2) := dk_21 4 (dk_at dksX14_row_7 15 rfl rfl)
theorem dX14_row_182 : decode cX14_row 182 = .ok (.iastore, 1) := dk_79 (dk_at dksX14_row_7 17 rfl rfl)
theorem dX14_row_183 : decode cX14_row 183 = .ok (.aload_n 0, 1) := dk_42 (dk_at dksX14_row_7 18 rfl rfl)
theorem dX14_row_184 : decode cX14_row 184 = .ok (.getfield 66, 3) := dk_180 0 66 (dk_at dksX14_row_7 19 rfl rfl)
theorem dX14_row_187 : decode cX14_row 187 = .ok (.iconst 2, 1) := dk_5 (dk_at dksX14_row_7 22 rfl rfl)
theorem dX14_row_188 : decode cX14_row 188 = .ok (.aload_n 0, 1) := dk_42 (dk_at dksX14_row_7 23 rfl rfl)
theorem dX14_row_189 : decode cX14_row 189 = .ok (.getfield 325, 3) := dk_180 1 69 (dk_at dksX14_row_8 0 rfl rfl)
theorem dX14_row_192 : decode cX14_row 192 = .ok (.iastore, 1) := dk_79 (dk_at dksX14_row_8 3 rfl rfl)
theorem dX14_row_193 : decode cX14_row 193 = .ok (.aload_n 0, 1) := dk_42 (dk_at dksX14_row_8 4 rfl rfl)
theorem dX14_row_194 : decode cX14_row 194 = .ok (.getfield 66, 3) := dk_180 0 66 (dk_at dksX14_row_8 5 rfl rfl)
theorem dX14_row_197 : decode cX14_row 197 = .ok (.iconst 3, 1) := dk_6 (dk_at dksX14_row_8 8 rfl rfl)
theorem dX14_row_198 : decode cX14_row 198 = .ok (.aload_n 0, 1) := dk_42 (dk_at dksX14_row_8 9 rfl rfl)
theorem dX14_row_199 : decode cX14_row 199 = .ok (.getfield 319, 3) := dk_180 1 63 (dk_at dksX14_row_8 10 rfl rfl)
theorem dX14_row_202 : decode cX14_row 202 = .ok (.iastore, 1) := dk_79 (dk_at dksX14_row_8 13 rfl rfl)
theorem dX14_row_203 : decode cX14_row 203 = .ok (.aload_n 0, 1) := dk_42 (dk_at dksX14_row_8 14 rfl rfl)
theorem dX14_row_204 : decode cX14_row 204 = .ok (.getfield 66, 3) := dk_180 0 66 (dk_at dksX14_row_8 15 rfl rfl)
theorem dX14_row_207 : decode cX14_row 207 = .ok (.iconst 4, 1) := dk_7 (dk_at dksX14_row_8 18 rfl rfl)
theorem dX14_row_208 : decode cX14_row 208 = .ok (.aload_n 0, 1) := dk_42 (dk_at dksX14_row_8 19 rfl rfl)
theorem dX14_row_209 : decode cX14_row 209 = .ok (.getfield 322, 3) := dk_180 1 66 (dk_at dksX14_row_8 20 rfl rfl)
theorem dX14_row_212 : decode cX14_row 212 = .ok (.iastore, 1) := dk_79 (dk_at dksX14_row_8 23 rfl rfl)
theorem dX14_row_213 : decode cX14_row 213 = .ok (.aload_n 0, 1) := dk_42 (dk_at dksX14_row_9 0 rfl rfl)
theorem dX14_row_214 : decode cX14_row 214 = .ok (.getfield 66, 3) := dk_180 0 66 (dk_at dksX14_row_9 1 rfl rfl)
theorem dX14_row_217 : decode cX14_row 217 = .ok (.iconst 5, 1) := dk_8 (dk_at dksX14_row_9 4 rfl rfl)
theorem dX14_row_218 : decode cX14_row 218 = .ok (.iload 5, 2) := dk_21 5 (dk_at dksX14_row_9 5 rfl rfl)
theorem dX14_row_220 : decode cX14_row 220 = .ok (.iastore, 1) := dk_79 (dk_at dksX14_row_9 7 rfl rfl)
theorem dX14_row_221 : decode cX14_row 221 = .ok (.iload_n 2, 1) := dk_28 (dk_at dksX14_row_9 8 rfl rfl)
theorem dX14_row_222 : decode cX14_row 222 = .ok (.ireturn, 1) := dk_172 (dk_at dksX14_row_9 9 rfl rfl)
abbrev cX14_takesTeam : ByteArray := prog_23_method_54_code
def yX14_takesTeam : MethodName := ⟨RX14, "takesTeam", "(IIZ)Z"⟩
def dkwX14_takesTeam_4 : List UInt8 := [21, 5, 42, 180, 0, 7, 21, 5, 46, 79, 132, 5, 1, 167, 255, 181, 4, 172]
abbrev dktX14_takesTeam_4 : List UInt8 := dkwX14_takesTeam_4 ++ []
def dkwX14_takesTeam_3 : List UInt8 := [153, 0, 5, 3, 172, 21, 4, 4, 42, 180, 0, 7, 21, 5, 46, 120, 128, 54, 4, 42, 180, 0, 39]
abbrev dktX14_takesTeam_3 : List UInt8 := dkwX14_takesTeam_3 ++ dktX14_takesTeam_4
def dkwX14_takesTeam_2 : List UInt8 := [42, 182, 1, 32, 162, 0, 22, 29, 153, 0, 20, 21, 4, 42, 180, 0, 7, 21, 5, 46, 184, 1, 2]
abbrev dktX14_takesTeam_2 : List UInt8 := dkwX14_takesTeam_2 ++ dktX14_takesTeam_3
def dkwX14_takesTeam_1 : List UInt8 := [3, 172, 3, 54, 4, 3, 54, 5, 21, 5, 42, 180, 1, 48, 162, 0, 72, 42, 180, 0, 7, 21, 5, 46]
abbrev dktX14_takesTeam_1 : List UInt8 := dkwX14_takesTeam_1 ++ dktX14_takesTeam_2
def dkwX14_takesTeam_0 : List UInt8 := [42, 182, 0, 232, 42, 42, 182, 0, 235, 181, 1, 48, 42, 180, 1, 48, 27, 28, 184, 0, 219, 154, 0, 5]
abbrev dktX14_takesTeam_0 : List UInt8 := dkwX14_takesTeam_0 ++ dktX14_takesTeam_1
theorem dksX14_takesTeam_0 : cX14_takesTeam.data.toList.drop 0 = dktX14_takesTeam_0 := by decide +kernel
theorem dksX14_takesTeam_1 : cX14_takesTeam.data.toList.drop 24 = dktX14_takesTeam_1 := dk_seg dksX14_takesTeam_0 24 rfl rfl
theorem dksX14_takesTeam_2 : cX14_takesTeam.data.toList.drop 48 = dktX14_takesTeam_2 := dk_seg dksX14_takesTeam_1 24 rfl rfl
theorem dksX14_takesTeam_3 : cX14_takesTeam.data.toList.drop 71 = dktX14_takesTeam_3 := dk_seg dksX14_takesTeam_2 23 rfl rfl
theorem dksX14_takesTeam_4 : cX14_takesTeam.data.toList.drop 94 = dktX14_takesTeam_4 := dk_seg dksX14_takesTeam_3 23 rfl rfl
theorem dX14_takesTeam_0 : decode cX14_takesTeam 0 = .ok (.aload_n 0, 1) := dk_42 (dk_at dksX14_takesTeam_0 0 rfl rfl)
theorem dX14_takesTeam_1 : decode cX14_takesTeam 1 = .ok (.invokevirtual 232, 3) := dk_182 0 232 (dk_at dksX14_takesTeam_0 1 rfl rfl)
theorem dX14_takesTeam_4 : decode cX14_takesTeam 4 = .ok (.aload_n 0, 1) := dk_42 (dk_at dksX14_takesTeam_0 4 rfl rfl)
theorem dX14_takesTeam_5 : decode cX14_takesTeam 5 = .ok (.aload_n 0, 1) := dk_42 (dk_at dksX14_takesTeam_0 5 rfl rfl)
theorem dX14_takesTeam_6 : decode cX14_takesTeam 6 = .ok (.invokevirtual 235, 3) := dk_182 0 235 (dk_at dksX14_takesTeam_0 6 rfl rfl)
theorem dX14_takesTeam_9 : decode cX14_takesTeam 9 = .ok (.putfield 304, 3) := dk_181 1 48 (dk_at dksX14_takesTeam_0 9 rfl rfl)
theorem dX14_takesTeam_12 : decode cX14_takesTeam 12 = .ok (.aload_n 0, 1) := dk_42 (dk_at dksX14_takesTeam_0 12 rfl rfl)
theorem dX14_takesTeam_13 : decode cX14_takesTeam 13 = .ok (.getfield 304, 3) := dk_180 1 48 (dk_at dksX14_takesTeam_0 13 rfl rfl)
theorem dX14_takesTeam_16 : decode cX14_takesTeam 16 = .ok (.iload_n 1, 1) := dk_27 (dk_at dksX14_takesTeam_0 16 rfl rfl)
theorem dX14_takesTeam_17 : decode cX14_takesTeam 17 = .ok (.iload_n 2, 1) := dk_28 (dk_at dksX14_takesTeam_0 17 rfl rfl)
theorem dX14_takesTeam_18 : decode cX14_takesTeam 18 = .ok (.invokestatic 219, 3) := dk_184 0 219 (dk_at dksX14_takesTeam_0 18 rfl rfl)
theorem dX14_takesTeam_21 : decode cX14_takesTeam 21 = .ok (.ifCond .ne 5, 3) := dk_154 0 5 (dk_at dksX14_takesTeam_0 21 rfl rfl)
theorem dX14_takesTeam_24 : decode cX14_takesTeam 24 = .ok (.iconst 0, 1) := dk_3 (dk_at dksX14_takesTeam_1 0 rfl rfl)
theorem dX14_takesTeam_25 : decode cX14_takesTeam 25 = .ok (.ireturn, 1) := dk_172 (dk_at dksX14_takesTeam_1 1 rfl rfl)
theorem dX14_takesTeam_26 : decode cX14_takesTeam 26 = .ok (.iconst 0, 1) := dk_3 (dk_at dksX14_takesTeam_1 2 rfl rfl)
theorem dX14_takesTeam_27 : decode cX14_takesTeam 27 = .ok (.istore 4, 2) := dk_54 4 (dk_at dksX14_takesTeam_1 3 rfl rfl)
theorem dX14_takesTeam_29 : decode cX14_takesTeam 29 = .ok (.iconst 0, 1) := dk_3 (dk_at dksX14_takesTeam_1 5 rfl rfl)
theorem dX14_takesTeam_30 : decode cX14_takesTeam 30 = .ok (.istore 5, 2) := dk_54 5 (dk_at dksX14_takesTeam_1 6 rfl rfl)
theorem dX14_takesTeam_32 : decode cX14_takesTeam 32 = .ok (.iload 5, 2) := dk_21 5 (dk_at dksX14_takesTeam_1 8 rfl rfl)
theorem dX14_takesTeam_34 : decode cX14_takesTeam 34 = .ok (.aload_n 0, 1) := dk_42 (dk_at dksX14_takesTeam_1 10 rfl rfl)
theorem dX14_takesTeam_35 : decode cX14_takesTeam 35 = .ok (.getfield 304, 3) := dk_180 1 48 (dk_at dksX14_takesTeam_1 11 rfl rfl)
theorem dX14_takesTeam_38 : decode cX14_takesTeam 38 = .ok (.if_icmp .ge 72, 3) := dk_162 0 72 (dk_at dksX14_takesTeam_1 14 rfl rfl)
theorem dX14_takesTeam_41 : decode cX14_takesTeam 41 = .ok (.aload_n 0, 1) := dk_42 (dk_at dksX14_takesTeam_1 17 rfl rfl)
theorem dX14_takesTeam_42 : decode cX14_takesTeam 42 = .ok (.getfield 7, 3) := dk_180 0 7 (dk_at dksX14_takesTeam_1 18 rfl rfl)
theorem dX14_takesTeam_45 : decode cX14_takesTeam 45 = .ok (.iload 5, 2) := dk_21 5 (dk_at dksX14_takesTeam_1 21 rfl rfl)
theorem dX14_takesTeam_47 : decode cX14_takesTeam 47 = .ok (.iaload, 1) := dk_46 (dk_at dksX14_takesTeam_1 23 rfl rfl)
theorem dX14_takesTeam_48 : decode cX14_takesTeam 48 = .ok (.aload_n 0, 1) := dk_42 (dk_at dksX14_takesTeam_2 0 rfl rfl)
theorem dX14_takesTeam_49 : decode cX14_takesTeam 49 = .ok (.invokevirtual 288, 3) := dk_182 1 32 (dk_at dksX14_takesTeam_2 1 rfl rfl)
theorem dX14_takesTeam_52 : decode cX14_takesTeam 52 = .ok (.if_icmp .ge 22, 3) := dk_162 0 22 (dk_at dksX14_takesTeam_2 4 rfl rfl)
theorem dX14_takesTeam_55 : decode cX14_takesTeam 55 = .ok (.iload_n 3, 1) := dk_29 (dk_at dksX14_takesTeam_2 7 rfl rfl)
theorem dX14_takesTeam_56 : decode cX14_takesTeam 56 = .ok (.ifCond .eq 20, 3) := dk_153 0 20 (dk_at dksX14_takesTeam_2 8 rfl rfl)
theorem dX14_takesTeam_59 : decode cX14_takesTeam 59 = .ok (.iload 4, 2) := dk_21 4 (dk_at dksX14_takesTeam_2 11 rfl rfl)
theorem dX14_takesTeam_61 : decode cX14_takesTeam 61 = .ok (.aload_n 0, 1) := dk_42 (dk_at dksX14_takesTeam_2 13 rfl rfl)
theorem dX14_takesTeam_62 : decode cX14_takesTeam 62 = .ok (.getfield 7, 3) := dk_180 0 7 (dk_at dksX14_takesTeam_2 14 rfl rfl)
theorem dX14_takesTeam_65 : decode cX14_takesTeam 65 = .ok (.iload 5, 2) := dk_21 5 (dk_at dksX14_takesTeam_2 17 rfl rfl)
theorem dX14_takesTeam_67 : decode cX14_takesTeam 67 = .ok (.iaload, 1) := dk_46 (dk_at dksX14_takesTeam_2 19 rfl rfl)
theorem dX14_takesTeam_68 : decode cX14_takesTeam 68 = .ok (.invokestatic 258, 3) := dk_184 1 2 (dk_at dksX14_takesTeam_2 20 rfl rfl)
theorem dX14_takesTeam_71 : decode cX14_takesTeam 71 = .ok (.ifCond .eq 5, 3) := dk_153 0 5 (dk_at dksX14_takesTeam_3 0 rfl rfl)
theorem dX14_takesTeam_74 : decode cX14_takesTeam 74 = .ok (.iconst 0, 1) := dk_3 (dk_at dksX14_takesTeam_3 3 rfl rfl)
theorem dX14_takesTeam_75 : decode cX14_takesTeam 75 = .ok (.ireturn, 1) := dk_172 (dk_at dksX14_takesTeam_3 4 rfl rfl)
theorem dX14_takesTeam_76 : decode cX14_takesTeam 76 = .ok (.iload 4, 2) := dk_21 4 (dk_at dksX14_takesTeam_3 5 rfl rfl)
theorem dX14_takesTeam_78 : decode cX14_takesTeam 78 = .ok (.iconst 1, 1) := dk_4 (dk_at dksX14_takesTeam_3 7 rfl rfl)
theorem dX14_takesTeam_79 : decode cX14_takesTeam 79 = .ok (.aload_n 0, 1) := dk_42 (dk_at dksX14_takesTeam_3 8 rfl rfl)
theorem dX14_takesTeam_80 : decode cX14_takesTeam 80 = .ok (.getfield 7, 3) := dk_180 0 7 (dk_at dksX14_takesTeam_3 9 rfl rfl)
theorem dX14_takesTeam_83 : decode cX14_takesTeam 83 = .ok (.iload 5, 2) := dk_21 5 (dk_at dksX14_takesTeam_3 12 rfl rfl)
theorem dX14_takesTeam_85 : decode cX14_takesTeam 85 = .ok (.iaload, 1) := dk_46 (dk_at dksX14_takesTeam_3 14 rfl rfl)
theorem dX14_takesTeam_86 : decode cX14_takesTeam 86 = .ok (.ishl, 1) := dk_120 (dk_at dksX14_takesTeam_3 15 rfl rfl)
theorem dX14_takesTeam_87 : decode cX14_takesTeam 87 = .ok (.ior, 1) := dk_128 (dk_at dksX14_takesTeam_3 16 rfl rfl)
theorem dX14_takesTeam_88 : decode cX14_takesTeam 88 = .ok (.istore 4, 2) := dk_54 4 (dk_at dksX14_takesTeam_3 17 rfl rfl)
theorem dX14_takesTeam_90 : decode cX14_takesTeam 90 = .ok (.aload_n 0, 1) := dk_42 (dk_at dksX14_takesTeam_3 19 rfl rfl)
theorem dX14_takesTeam_91 : decode cX14_takesTeam 91 = .ok (.getfield 39, 3) := dk_180 0 39 (dk_at dksX14_takesTeam_3 20 rfl rfl)
theorem dX14_takesTeam_94 : decode cX14_takesTeam 94 = .ok (.iload 5, 2) := dk_21 5 (dk_at dksX14_takesTeam_4 0 rfl rfl)
theorem dX14_takesTeam_96 : decode cX14_takesTeam 96 = .ok (.aload_n 0, 1) := dk_42 (dk_at dksX14_takesTeam_4 2 rfl rfl)
theorem dX14_takesTeam_97 : decode cX14_takesTeam 97 = .ok (.getfield 7, 3) := dk_180 0 7 (dk_at dksX14_takesTeam_4 3 rfl rfl)
theorem dX14_takesTeam_100 : decode cX14_takesTeam 100 = .ok (.iload 5, 2) := dk_21 5 (dk_at dksX14_takesTeam_4 6 rfl rfl)
theorem dX14_takesTeam_102 : decode cX14_takesTeam 102 = .ok (.iaload, 1) := dk_46 (dk_at dksX14_takesTeam_4 8 rfl rfl)
theorem dX14_takesTeam_103 : decode cX14_takesTeam 103 = .ok (.iastore, 1) := dk_79 (dk_at dksX14_takesTeam_4 9 rfl rfl)
theorem dX14_takesTeam_104 : decode cX14_takesTeam 104 = .ok (.iinc 5 1, 3) := dk_132 5 1 (dk_at dksX14_takesTeam_4 10 rfl rfl)
theorem dX14_takesTeam_107 : decode cX14_takesTeam 107 = .ok (.goto (-75), 3) := dk_167 255 181 (dk_at dksX14_takesTeam_4 13 rfl rfl)
theorem dX14_takesTeam_110 : decode cX14_takesTeam 110 = .ok (.iconst 1, 1) := dk_4 (dk_at dksX14_takesTeam_4 16 rfl rfl)
theorem dX14_takesTeam_111 : decode cX14_takesTeam 111 = .ok (.ireturn, 1) := dk_172 (dk_at dksX14_takesTeam_4 17 rfl rfl)
abbrev cX14_throwsIn : ByteArray := prog_23_method_53_code
def yX14_throwsIn : MethodName := ⟨RX14, "throwsIn", "(IIII)I"⟩
def dkwX14_throwsIn_1 : List UInt8 := [182, 1, 113, 132, 5, 1, 167, 255, 242, 42, 180, 1, 60, 172]
abbrev dktX14_throwsIn_1 : List UInt8 := dkwX14_throwsIn_1 ++ []
def dkwX14_throwsIn_0 : List UInt8 := [42, 29, 181, 1, 78, 42, 27, 28, 182, 1, 110, 3, 54, 5, 21, 5, 21, 4, 162, 0, 13, 42]
abbrev dktX14_throwsIn_0 : List UInt8 := dkwX14_throwsIn_0 ++ dktX14_throwsIn_1
theorem dksX14_throwsIn_0 : cX14_throwsIn.data.toList.drop 0 = dktX14_throwsIn_0 := by decide +kernel
theorem dksX14_throwsIn_1 : cX14_throwsIn.data.toList.drop 22 = dktX14_throwsIn_1 := dk_seg dksX14_throwsIn_0 22 rfl rfl
theorem dX14_throwsIn_0 : decode cX14_throwsIn 0 = .ok (.aload_n 0, 1) := dk_42 (dk_at dksX14_throwsIn_0 0 rfl rfl)
theorem dX14_throwsIn_1 : decode cX14_throwsIn 1 = .ok (.iload_n 3, 1) := dk_29 (dk_at dksX14_throwsIn_0 1 rfl rfl)
theorem dX14_throwsIn_2 : decode cX14_throwsIn 2 = .ok (.putfield 334, 3) := dk_181 1 78 (dk_at dksX14_throwsIn_0 2 rfl rfl)
theorem dX14_throwsIn_5 : decode cX14_throwsIn 5 = .ok (.aload_n 0, 1) := dk_42 (dk_at dksX14_throwsIn_0 5 rfl rfl)
theorem dX14_throwsIn_6 : decode cX14_throwsIn 6 = .ok (.iload_n 1, 1) := dk_27 (dk_at dksX14_throwsIn_0 6 rfl rfl)
theorem dX14_throwsIn_7 : decode cX14_throwsIn 7 = .ok (.iload_n 2, 1) := dk_28 (dk_at dksX14_throwsIn_0 7 rfl rfl)
theorem dX14_throwsIn_8 : decode cX14_throwsIn 8 = .ok (.invokevirtual 366, 3) := dk_182 1 110 (dk_at dksX14_throwsIn_0 8 rfl rfl)
theorem dX14_throwsIn_11 : decode cX14_throwsIn 11 = .ok (.iconst 0, 1) := dk_3 (dk_at dksX14_throwsIn_0 11 rfl rfl)
theorem dX14_throwsIn_12 : decode cX14_throwsIn 12 = .ok (.istore 5, 2) := dk_54 5 (dk_at dksX14_throwsIn_0 12 rfl rfl)
theorem dX14_throwsIn_14 : decode cX14_throwsIn 14 = .ok (.iload 5, 2) := dk_21 5 (dk_at dksX14_throwsIn_0 14 rfl rfl)
theorem dX14_throwsIn_16 : decode cX14_throwsIn 16 = .ok (.iload 4, 2) := dk_21 4 (dk_at dksX14_throwsIn_0 16 rfl rfl)
theorem dX14_throwsIn_18 : decode cX14_throwsIn 18 = .ok (.if_icmp .ge 13, 3) := dk_162 0 13 (dk_at dksX14_throwsIn_0 18 rfl rfl)
theorem dX14_throwsIn_21 : decode cX14_throwsIn 21 = .ok (.aload_n 0, 1) := dk_42 (dk_at dksX14_throwsIn_0 21 rfl rfl)
theorem dX14_throwsIn_22 : decode cX14_throwsIn 22 = .ok (.invokevirtual 369, 3) := dk_182 1 113 (dk_at dksX14_throwsIn_1 0 rfl rfl)
theorem dX14_throwsIn_25 : decode cX14_throwsIn 25 = .ok (.iinc 5 1, 3) := dk_132 5 1 (dk_at dksX14_throwsIn_1 3 rfl rfl)
theorem dX14_throwsIn_28 : decode cX14_throwsIn 28 = .ok (.goto (-14), 3) := dk_167 255 242 (dk_at dksX14_throwsIn_1 6 rfl rfl)
theorem dX14_throwsIn_31 : decode cX14_throwsIn 31 = .ok (.aload_n 0, 1) := dk_42 (dk_at dksX14_throwsIn_1 9 rfl rfl)
theorem dX14_throwsIn_32 : decode cX14_throwsIn 32 = .ok (.getfield 316, 3) := dk_180 1 60 (dk_at dksX14_throwsIn_1 10 rfl rfl)
theorem dX14_throwsIn_35 : decode cX14_throwsIn 35 = .ok (.ireturn, 1) := dk_172 (dk_at dksX14_throwsIn_1 13 rfl rfl)
abbrev cX14_start : ByteArray := prog_23_method_41_code
def yX14_start : MethodName := ⟨RX14, "start", "(II)V"⟩
def dkwX14_start_5 : List UInt8 := [180, 0, 13, 5, 46, 164, 0, 13, 42, 42, 180, 0, 13, 5, 46, 181, 1, 48, 177]
abbrev dktX14_start_5 : List UInt8 := dkwX14_start_5 ++ []
def dkwX14_start_4 : List UInt8 := [180, 0, 63, 29, 3, 79, 132, 3, 1, 167, 255, 205, 27, 5, 160, 0, 26, 42, 180, 1, 48, 42]
abbrev dktX14_start_4 : List UInt8 := dkwX14_start_4 ++ dktX14_start_5
def dkwX14_start_3 : List UInt8 := [3, 79, 42, 180, 0, 48, 29, 3, 79, 42, 180, 0, 54, 29, 3, 79, 42, 180, 0, 57, 29, 3, 79, 42]
abbrev dktX14_start_3 : List UInt8 := dkwX14_start_3 ++ dktX14_start_4
def dkwX14_start_2 : List UInt8 := [3, 181, 1, 69, 3, 62, 29, 16, 12, 162, 0, 51, 42, 180, 0, 42, 29, 3, 79, 42, 180, 0, 45, 29]
abbrev dktX14_start_2 : List UInt8 := dkwX14_start_2 ++ dktX14_start_3
def dkwX14_start_1 : List UInt8 := [181, 1, 54, 42, 3, 181, 1, 57, 42, 3, 181, 1, 60, 42, 3, 181, 1, 63, 42, 3, 181, 1, 66, 42]
abbrev dktX14_start_1 : List UInt8 := dkwX14_start_1 ++ dktX14_start_2
def dkwX14_start_0 : List UInt8 := [42, 27, 181, 1, 45, 42, 28, 181, 1, 48, 42, 3, 181, 1, 51, 42, 42, 180, 0, 13, 5, 46]
abbrev dktX14_start_0 : List UInt8 := dkwX14_start_0 ++ dktX14_start_1
theorem dksX14_start_0 : cX14_start.data.toList.drop 0 = dktX14_start_0 := by decide +kernel
theorem dksX14_start_1 : cX14_start.data.toList.drop 22 = dktX14_start_1 := dk_seg dksX14_start_0 22 rfl rfl
theorem dksX14_start_2 : cX14_start.data.toList.drop 46 = dktX14_start_2 := dk_seg dksX14_start_1 24 rfl rfl
theorem dksX14_start_3 : cX14_start.data.toList.drop 70 = dktX14_start_3 := dk_seg dksX14_start_2 24 rfl rfl
theorem dksX14_start_4 : cX14_start.data.toList.drop 94 = dktX14_start_4 := dk_seg dksX14_start_3 24 rfl rfl
theorem dksX14_start_5 : cX14_start.data.toList.drop 116 = dktX14_start_5 := dk_seg dksX14_start_4 22 rfl rfl
theorem dX14_start_0 : decode cX14_start 0 = .ok (.aload_n 0, 1) := dk_42 (dk_at dksX14_start_0 0 rfl rfl)
theorem dX14_start_1 : decode cX14_start 1 = .ok (.iload_n 1, 1) := dk_27 (dk_at dksX14_start_0 1 rfl rfl)
theorem dX14_start_2 : decode cX14_start 2 = .ok (.putfield 301, 3) := dk_181 1 45 (dk_at dksX14_start_0 2 rfl rfl)
theorem dX14_start_5 : decode cX14_start 5 = .ok (.aload_n 0, 1) := dk_42 (dk_at dksX14_start_0 5 rfl rfl)
theorem dX14_start_6 : decode cX14_start 6 = .ok (.iload_n 2, 1) := dk_28 (dk_at dksX14_start_0 6 rfl rfl)
theorem dX14_start_7 : decode cX14_start 7 = .ok (.putfield 304, 3) := dk_181 1 48 (dk_at dksX14_start_0 7 rfl rfl)
theorem dX14_start_10 : decode cX14_start 10 = .ok (.aload_n 0, 1) := dk_42 (dk_at dksX14_start_0 10 rfl rfl)
theorem dX14_start_11 : decode cX14_start 11 = .ok (.iconst 0, 1) := dk_3 (dk_at dksX14_start_0 11 rfl rfl)
theorem dX14_start_12 : decode cX14_start 12 = .ok (.putfield 307, 3) := dk_181 1 51 (dk_at dksX14_start_0 12 rfl rfl)
theorem dX14_start_15 : decode cX14_start 15 = .ok (.aload_n 0, 1) := dk_42 (dk_at dksX14_start_0 15 rfl rfl)
theorem dX14_start_16 : decode cX14_start 16 = .ok (.aload_n 0, 1) := dk_42 (dk_at dksX14_start_0 16 rfl rfl)
theorem dX14_start_17 : decode cX14_start 17 = .ok (.getfield 13, 3) := dk_180 0 13 (dk_at dksX14_start_0 17 rfl rfl)
theorem dX14_start_20 : decode cX14_start 20 = .ok (.iconst 2, 1) := dk_5 (dk_at dksX14_start_0 20 rfl rfl)
theorem dX14_start_21 : decode cX14_start 21 = .ok (.iaload, 1) := dk_46 (dk_at dksX14_start_0 21 rfl rfl)
theorem dX14_start_22 : decode cX14_start 22 = .ok (.putfield 310, 3) := dk_181 1 54 (dk_at dksX14_start_1 0 rfl rfl)
theorem dX14_start_25 : decode cX14_start 25 = .ok (.aload_n 0, 1) := dk_42 (dk_at dksX14_start_1 3 rfl rfl)
theorem dX14_start_26 : decode cX14_start 26 = .ok (.iconst 0, 1) := dk_3 (dk_at dksX14_start_1 4 rfl rfl)
theorem dX14_start_27 : decode cX14_start 27 = .ok (.putfield 313, 3) := dk_181 1 57 (dk_at dksX14_start_1 5 rfl rfl)
theorem dX14_start_30 : decode cX14_start 30 = .ok (.aload_n 0, 1) := dk_42 (dk_at dksX14_start_1 8 rfl rfl)
theorem dX14_start_31 : decode cX14_start 31 = .ok (.iconst 0, 1) := dk_3 (dk_at dksX14_start_1 9 rfl rfl)
theorem dX14_start_32 : decode cX14_start 32 = .ok (.putfield 316, 3) := dk_181 1 60 (dk_at dksX14_start_1 10 rfl rfl)
theorem dX14_start_35 : decode cX14_start 35 = .ok (.aload_n 0, 1) := dk_42 (dk_at dksX14_start_1 13 rfl rfl)
theorem dX14_start_36 : decode cX14_start 36 = .ok (.iconst 0, 1) := dk_3 (dk_at dksX14_start_1 14 rfl rfl)
theorem dX14_start_37 : decode cX14_start 37 = .ok (.putfield 319, 3) := dk_181 1 63 (dk_at dksX14_start_1 15 rfl rfl)
theorem dX14_start_40 : decode cX14_start 40 = .ok (.aload_n 0, 1) := dk_42 (dk_at dksX14_start_1 18 rfl rfl)
theorem dX14_start_41 : decode cX14_start 41 = .ok (.iconst 0, 1) := dk_3 (dk_at dksX14_start_1 19 rfl rfl)
theorem dX14_start_42 : decode cX14_start 42 = .ok (.putfield 322, 3) := dk_181 1 66 (dk_at dksX14_start_1 20 rfl rfl)
theorem dX14_start_45 : decode cX14_start 45 = .ok (.aload_n 0, 1) := dk_42 (dk_at dksX14_start_1 23 rfl rfl)
theorem dX14_start_46 : decode cX14_start 46 = .ok (.iconst 0, 1) := dk_3 (dk_at dksX14_start_2 0 rfl rfl)
theorem dX14_start_47 : decode cX14_start 47 = .ok (.putfield 325, 3) := dk_181 1 69 (dk_at dksX14_start_2 1 rfl rfl)
theorem dX14_start_50 : decode cX14_start 50 = .ok (.iconst 0, 1) := dk_3 (dk_at dksX14_start_2 4 rfl rfl)
theorem dX14_start_51 : decode cX14_start 51 = .ok (.istore_n 3, 1) := dk_62 (dk_at dksX14_start_2 5 rfl rfl)
theorem dX14_start_52 : decode cX14_start 52 = .ok (.iload_n 3, 1) := dk_29 (dk_at dksX14_start_2 6 rfl rfl)
theorem dX14_start_53 : decode cX14_start 53 = .ok (.bipush 12, 2) := dk_16 12 (dk_at dksX14_start_2 7 rfl rfl)
theorem dX14_start_55 : decode cX14_start 55 = .ok (.if_icmp .ge 51, 3) := dk_162 0 51 (dk_at dksX14_start_2 9 rfl rfl)
theorem dX14_start_58 : decode cX14_start 58 = .ok (.aload_n 0, 1) := dk_42 (dk_at dksX14_start_2 12 rfl rfl)
theorem dX14_start_59 : decode cX14_start 59 = .ok (.getfield 42, 3) := dk_180 0 42 (dk_at dksX14_start_2 13 rfl rfl)
theorem dX14_start_62 : decode cX14_start 62 = .ok (.iload_n 3, 1) := dk_29 (dk_at dksX14_start_2 16 rfl rfl)
theorem dX14_start_63 : decode cX14_start 63 = .ok (.iconst 0, 1) := dk_3 (dk_at dksX14_start_2 17 rfl rfl)
theorem dX14_start_64 : decode cX14_start 64 = .ok (.iastore, 1) := dk_79 (dk_at dksX14_start_2 18 rfl rfl)
theorem dX14_start_65 : decode cX14_start 65 = .ok (.aload_n 0, 1) := dk_42 (dk_at dksX14_start_2 19 rfl rfl)
theorem dX14_start_66 : decode cX14_start 66 = .ok (.getfield 45, 3) := dk_180 0 45 (dk_at dksX14_start_2 20 rfl rfl)
theorem dX14_start_69 : decode cX14_start 69 = .ok (.iload_n 3, 1) := dk_29 (dk_at dksX14_start_2 23 rfl rfl)
theorem dX14_start_70 : decode cX14_start 70 = .ok (.iconst 0, 1) := dk_3 (dk_at dksX14_start_3 0 rfl rfl)
theorem dX14_start_71 : decode cX14_start 71 = .ok (.iastore, 1) := dk_79 (dk_at dksX14_start_3 1 rfl rfl)
theorem dX14_start_72 : decode cX14_start 72 = .ok (.aload_n 0, 1) := dk_42 (dk_at dksX14_start_3 2 rfl rfl)
theorem dX14_start_73 : decode cX14_start 73 = .ok (.getfield 48, 3) := dk_180 0 48 (dk_at dksX14_start_3 3 rfl rfl)
theorem dX14_start_76 : decode cX14_start 76 = .ok (.iload_n 3, 1) := dk_29 (dk_at dksX14_start_3 6 rfl rfl)
theorem dX14_start_77 : decode cX14_start 77 = .ok (.iconst 0, 1) := dk_3 (dk_at dksX14_start_3 7 rfl rfl)
theorem dX14_start_78 : decode cX14_start 78 = .ok (.iastore, 1) := dk_79 (dk_at dksX14_start_3 8 rfl rfl)
theorem dX14_start_79 : decode cX14_start 79 = .ok (.aload_n 0, 1) := dk_42 (dk_at dksX14_start_3 9 rfl rfl)
theorem dX14_start_80 : decode cX14_start 80 = .ok (.getfield 54, 3) := dk_180 0 54 (dk_at dksX14_start_3 10 rfl rfl)
theorem dX14_start_83 : decode cX14_start 83 = .ok (.iload_n 3, 1) := dk_29 (dk_at dksX14_start_3 13 rfl rfl)
theorem dX14_start_84 : decode cX14_start 84 = .ok (.iconst 0, 1) := dk_3 (dk_at dksX14_start_3 14 rfl rfl)
theorem dX14_start_85 : decode cX14_start 85 = .ok (.iastore, 1) := dk_79 (dk_at dksX14_start_3 15 rfl rfl)
theorem dX14_start_86 : decode cX14_start 86 = .ok (.aload_n 0, 1) := dk_42 (dk_at dksX14_start_3 16 rfl rfl)
theorem dX14_start_87 : decode cX14_start 87 = .ok (.getfield 57, 3) := dk_180 0 57 (dk_at dksX14_start_3 17 rfl rfl)
theorem dX14_start_90 : decode cX14_start 90 = .ok (.iload_n 3, 1) := dk_29 (dk_at dksX14_start_3 20 rfl rfl)
theorem dX14_start_91 : decode cX14_start 91 = .ok (.iconst 0, 1) := dk_3 (dk_at dksX14_start_3 21 rfl rfl)
theorem dX14_start_92 : decode cX14_start 92 = .ok (.iastore, 1) := dk_79 (dk_at dksX14_start_3 22 rfl rfl)
theorem dX14_start_93 : decode cX14_start 93 = .ok (.aload_n 0, 1) := dk_42 (dk_at dksX14_start_3 23 rfl rfl)
theorem dX14_start_94 : decode cX14_start 94 = .ok (.getfield 63, 3) := dk_180 0 63 (dk_at dksX14_start_4 0 rfl rfl)
theorem dX14_start_97 : decode cX14_start 97 = .ok (.iload_n 3, 1) := dk_29 (dk_at dksX14_start_4 3 rfl rfl)
theorem dX14_start_98 : decode cX14_start 98 = .ok (.iconst 0, 1) := dk_3 (dk_at dksX14_start_4 4 rfl rfl)
theorem dX14_start_99 : decode cX14_start 99 = .ok (.iastore, 1) := dk_79 (dk_at dksX14_start_4 5 rfl rfl)
theorem dX14_start_100 : decode cX14_start 100 = .ok (.iinc 3 1, 3) := dk_132 3 1 (dk_at dksX14_start_4 6 rfl rfl)
theorem dX14_start_103 : decode cX14_start 103 = .ok (.goto (-51), 3) := dk_167 255 205 (dk_at dksX14_start_4 9 rfl rfl)
theorem dX14_start_106 : decode cX14_start 106 = .ok (.iload_n 1, 1) := dk_27 (dk_at dksX14_start_4 12 rfl rfl)
theorem dX14_start_107 : decode cX14_start 107 = .ok (.iconst 2, 1) := dk_5 (dk_at dksX14_start_4 13 rfl rfl)
theorem dX14_start_108 : decode cX14_start 108 = .ok (.if_icmp .ne 26, 3) := dk_160 0 26 (dk_at dksX14_start_4 14 rfl rfl)
theorem dX14_start_111 : decode cX14_start 111 = .ok (.aload_n 0, 1) := dk_42 (dk_at dksX14_start_4 17 rfl rfl)
theorem dX14_start_112 : decode cX14_start 112 = .ok (.getfield 304, 3) := dk_180 1 48 (dk_at dksX14_start_4 18 rfl rfl)
theorem dX14_start_115 : decode cX14_start 115 = .ok (.aload_n 0, 1) := dk_42 (dk_at dksX14_start_4 21 rfl rfl)
theorem dX14_start_116 : decode cX14_start 116 = .ok (.getfield 13, 3) := dk_180 0 13 (dk_at dksX14_start_5 0 rfl rfl)
theorem dX14_start_119 : decode cX14_start 119 = .ok (.iconst 2, 1) := dk_5 (dk_at dksX14_start_5 3 rfl rfl)
theorem dX14_start_120 : decode cX14_start 120 = .ok (.iaload, 1) := dk_46 (dk_at dksX14_start_5 4 rfl rfl)
theorem dX14_start_121 : decode cX14_start 121 = .ok (.if_icmp .le 13, 3) := dk_164 0 13 (dk_at dksX14_start_5 5 rfl rfl)
theorem dX14_start_124 : decode cX14_start 124 = .ok (.aload_n 0, 1) := dk_42 (dk_at dksX14_start_5 8 rfl rfl)
theorem dX14_start_125 : decode cX14_start 125 = .ok (.aload_n 0, 1) := dk_42 (dk_at dksX14_start_5 9 rfl rfl)
theorem dX14_start_126 : decode cX14_start 126 = .ok (.getfield 13, 3) := dk_180 0 13 (dk_at dksX14_start_5 10 rfl rfl)
theorem dX14_start_129 : decode cX14_start 129 = .ok (.iconst 2, 1) := dk_5 (dk_at dksX14_start_5 13 rfl rfl)
theorem dX14_start_130 : decode cX14_start 130 = .ok (.iaload, 1) := dk_46 (dk_at dksX14_start_5 14 rfl rfl)
theorem dX14_start_131 : decode cX14_start 131 = .ok (.putfield 304, 3) := dk_181 1 48 (dk_at dksX14_start_5 15 rfl rfl)
theorem dX14_start_134 : decode cX14_start 134 = .ok (.return_, 1) := dk_177 (dk_at dksX14_start_5 18 rfl rfl)
abbrev cX14_teamTick : ByteArray := prog_23_method_52_code
def yX14_teamTick : MethodName := ⟨RX14, "teamTick", "()V"⟩
def dkwX14_teamTick_1 : List UInt8 := [180, 1, 45, 5, 160, 0, 7, 42, 182, 1, 107, 177]
abbrev dktX14_teamTick_1 : List UInt8 := dkwX14_teamTick_1 ++ []
def dkwX14_teamTick_0 : List UInt8 := [42, 89, 180, 1, 51, 4, 96, 181, 1, 51, 42, 180, 1, 45, 4, 160, 0, 7, 42, 182, 1, 104, 42]
abbrev dktX14_teamTick_0 : List UInt8 := dkwX14_teamTick_0 ++ dktX14_teamTick_1
theorem dksX14_teamTick_0 : cX14_teamTick.data.toList.drop 0 = dktX14_teamTick_0 := by decide +kernel
theorem dksX14_teamTick_1 : cX14_teamTick.data.toList.drop 23 = dktX14_teamTick_1 := dk_seg dksX14_teamTick_0 23 rfl rfl
theorem dX14_teamTick_0 : decode cX14_teamTick 0 = .ok (.aload_n 0, 1) := dk_42 (dk_at dksX14_teamTick_0 0 rfl rfl)
theorem dX14_teamTick_1 : decode cX14_teamTick 1 = .ok (.dup, 1) := dk_89 (dk_at dksX14_teamTick_0 1 rfl rfl)
theorem dX14_teamTick_2 : decode cX14_teamTick 2 = .ok (.getfield 307, 3) := dk_180 1 51 (dk_at dksX14_teamTick_0 2 rfl rfl)
theorem dX14_teamTick_5 : decode cX14_teamTick 5 = .ok (.iconst 1, 1) := dk_4 (dk_at dksX14_teamTick_0 5 rfl rfl)
theorem dX14_teamTick_6 : decode cX14_teamTick 6 = .ok (.iadd, 1) := dk_96 (dk_at dksX14_teamTick_0 6 rfl rfl)
theorem dX14_teamTick_7 : decode cX14_teamTick 7 = .ok (.putfield 307, 3) := dk_181 1 51 (dk_at dksX14_teamTick_0 7 rfl rfl)
theorem dX14_teamTick_10 : decode cX14_teamTick 10 = .ok (.aload_n 0, 1) := dk_42 (dk_at dksX14_teamTick_0 10 rfl rfl)
theorem dX14_teamTick_11 : decode cX14_teamTick 11 = .ok (.getfield 301, 3) := dk_180 1 45 (dk_at dksX14_teamTick_0 11 rfl rfl)
theorem dX14_teamTick_14 : decode cX14_teamTick 14 = .ok (.iconst 1, 1) := dk_4 (dk_at dksX14_teamTick_0 14 rfl rfl)
theorem dX14_teamTick_15 : decode cX14_teamTick 15 = .ok (.if_icmp .ne 7, 3) := dk_160 0 7 (dk_at dksX14_teamTick_0 15 rfl rfl)
theorem dX14_teamTick_18 : decode cX14_teamTick 18 = .ok (.aload_n 0, 1) := dk_42 (dk_at dksX14_teamTick_0 18 rfl rfl)
theorem dX14_teamTick_19 : decode cX14_teamTick 19 = .ok (.invokevirtual 360, 3) := dk_182 1 104 (dk_at dksX14_teamTick_0 19 rfl rfl)
theorem dX14_teamTick_22 : decode cX14_teamTick 22 = .ok (.aload_n 0, 1) := dk_42 (dk_at dksX14_teamTick_0 22 rfl rfl)
theorem dX14_teamTick_23 : decode cX14_teamTick 23 = .ok (.getfield 301, 3) := dk_180 1 45 (dk_at dksX14_teamTick_1 0 rfl rfl)
theorem dX14_teamTick_26 : decode cX14_teamTick 26 = .ok (.iconst 2, 1) := dk_5 (dk_at dksX14_teamTick_1 3 rfl rfl)
theorem dX14_teamTick_27 : decode cX14_teamTick 27 = .ok (.if_icmp .ne 7, 3) := dk_160 0 7 (dk_at dksX14_teamTick_1 4 rfl rfl)
theorem dX14_teamTick_30 : decode cX14_teamTick 30 = .ok (.aload_n 0, 1) := dk_42 (dk_at dksX14_teamTick_1 7 rfl rfl)
theorem dX14_teamTick_31 : decode cX14_teamTick 31 = .ok (.invokevirtual 363, 3) := dk_182 1 107 (dk_at dksX14_teamTick_1 8 rfl rfl)
theorem dX14_teamTick_34 : decode cX14_teamTick 34 = .ok (.return_, 1) := dk_177 (dk_at dksX14_teamTick_1 11 rfl rfl)
abbrev cX14_rowTick : ByteArray := prog_23_method_49_code
def yX14_rowTick : MethodName := ⟨RX14, "rowTick", "()V"⟩
def dkwX14_rowTick_7 : List UInt8 := [42, 180, 0, 57, 27, 42, 180, 0, 54, 27, 46, 79, 132, 1, 1, 167, 255, 218, 177]
abbrev dktX14_rowTick_7 : List UInt8 := dkwX14_rowTick_7 ++ []
def dkwX14_rowTick_6 : List UInt8 := [60, 27, 42, 180, 1, 48, 162, 0, 36, 42, 180, 0, 54, 27, 46, 42, 180, 0, 57, 27, 46, 164, 0, 15]
abbrev dktX14_rowTick_6 : List UInt8 := dkwX14_rowTick_6 ++ dktX14_rowTick_7
def dkwX14_rowTick_5 : List UInt8 := [182, 1, 95, 42, 180, 0, 42, 27, 46, 154, 0, 8, 42, 27, 182, 1, 98, 132, 1, 255, 167, 255, 202, 4]
abbrev dktX14_rowTick_5 : List UInt8 := dkwX14_rowTick_5 ++ dktX14_rowTick_6
def dkwX14_rowTick_4 : List UInt8 := [158, 0, 27, 42, 180, 0, 42, 27, 92, 46, 4, 100, 79, 42, 180, 0, 42, 27, 46, 154, 0, 8, 42, 27]
abbrev dktX14_rowTick_4 : List UInt8 := dkwX14_rowTick_4 ++ dktX14_rowTick_5
def dkwX14_rowTick_3 : List UInt8 := [167, 255, 231, 167, 255, 186, 42, 180, 1, 48, 4, 100, 60, 27, 155, 0, 56, 42, 180, 0, 42, 27, 46]
abbrev dktX14_rowTick_3 : List UInt8 := dkwX14_rowTick_3 ++ dktX14_rowTick_4
def dkwX14_rowTick_2 : List UInt8 := [180, 1, 57, 162, 0, 23, 42, 180, 0, 60, 27, 42, 180, 0, 60, 27, 4, 96, 46, 79, 132, 1, 1]
abbrev dktX14_rowTick_2 : List UInt8 := dkwX14_rowTick_2 ++ dktX14_rowTick_3
def dkwX14_rowTick_1 : List UInt8 := [180, 1, 54, 4, 96, 181, 1, 54, 42, 89, 180, 1, 57, 4, 100, 181, 1, 57, 3, 60, 27, 42]
abbrev dktX14_rowTick_1 : List UInt8 := dkwX14_rowTick_1 ++ dktX14_rowTick_2
def dkwX14_rowTick_0 : List UInt8 := [42, 180, 1, 57, 158, 0, 69, 42, 180, 0, 60, 3, 46, 42, 180, 1, 51, 163, 0, 56, 42, 89]
abbrev dktX14_rowTick_0 : List UInt8 := dkwX14_rowTick_0 ++ dktX14_rowTick_1
theorem dksX14_rowTick_0 : cX14_rowTick.data.toList.drop 0 = dktX14_rowTick_0 := by decide +kernel
theorem dksX14_rowTick_1 : cX14_rowTick.data.toList.drop 22 = dktX14_rowTick_1 := dk_seg dksX14_rowTick_0 22 rfl rfl
theorem dksX14_rowTick_2 : cX14_rowTick.data.toList.drop 44 = dktX14_rowTick_2 := dk_seg dksX14_rowTick_1 22 rfl rfl
theorem dksX14_rowTick_3 : cX14_rowTick.data.toList.drop 67 = dktX14_rowTick_3 := dk_seg dksX14_rowTick_2 23 rfl rfl
theorem dksX14_rowTick_4 : cX14_rowTick.data.toList.drop 90 = dktX14_rowTick_4 := dk_seg dksX14_rowTick_3 23 rfl rfl
theorem dksX14_rowTick_5 : cX14_rowTick.data.toList.drop 114 = dktX14_rowTick_5 := dk_seg dksX14_rowTick_4 24 rfl rfl
theorem dksX14_rowTick_6 : cX14_rowTick.data.toList.drop 138 = dktX14_rowTick_6 := dk_seg dksX14_rowTick_5 24 rfl rfl
theorem dksX14_rowTick_7 : cX14_rowTick.data.toList.drop 162 = dktX14_rowTick_7 := dk_seg dksX14_rowTick_6 24 rfl rfl
theorem dX14_rowTick_0 : decode cX14_rowTick 0 = .ok (.aload_n 0, 1) := dk_42 (dk_at dksX14_rowTick_0 0 rfl rfl)
theorem dX14_rowTick_1 : decode cX14_rowTick 1 = .ok (.getfield 313, 3) := dk_180 1 57 (dk_at dksX14_rowTick_0 1 rfl rfl)
theorem dX14_rowTick_4 : decode cX14_rowTick 4 = .ok (.ifCond .le 69, 3) := dk_158 0 69 (dk_at dksX14_rowTick_0 4 rfl rfl)
theorem dX14_rowTick_7 : decode cX14_rowTick 7 = .ok (.aload_n 0, 1) := dk_42 (dk_at dksX14_rowTick_0 7 rfl rfl)
theorem dX14_rowTick_8 : decode cX14_rowTick 8 = .ok (.getfield 60, 3) := dk_180 0 60 (dk_at dksX14_rowTick_0 8 rfl rfl)
theorem dX14_rowTick_11 : decode cX14_rowTick 11 = .ok (.iconst 0, 1) := dk_3 (dk_at dksX14_rowTick_0 11 rfl rfl)
theorem dX14_rowTick_12 : decode cX14_rowTick 12 = .ok (.iaload, 1) := dk_46 (dk_at dksX14_rowTick_0 12 rfl rfl)
theorem dX14_rowTick_13 : decode cX14_rowTick 13 = .ok (.aload_n 0, 1) := dk_42 (dk_at dksX14_rowTick_0 13 rfl rfl)
theorem dX14_rowTick_14 : decode cX14_rowTick 14 = .ok (.getfield 307, 3) := dk_180 1 51 (dk_at dksX14_rowTick_0 14 rfl rfl)
theorem dX14_rowTick_17 : decode cX14_rowTick 17 = .ok (.if_icmp .gt 56, 3) := dk_163 0 56 (dk_at dksX14_rowTick_0 17 rfl rfl)
theorem dX14_rowTick_20 : decode cX14_rowTick 20 = .ok (.aload_n 0, 1) := dk_42 (dk_at dksX14_rowTick_0 20 rfl rfl)
theorem dX14_rowTick_21 : decode cX14_rowTick 21 = .ok (.dup, 1) := dk_89 (dk_at dksX14_rowTick_0 21 rfl rfl)
theorem dX14_rowTick_22 : decode cX14_rowTick 22 = .ok (.getfield 310, 3) := dk_180 1 54 (dk_at dksX14_rowTick_1 0 rfl rfl)
theorem dX14_rowTick_25 : decode cX14_rowTick 25 = .ok (.iconst 1, 1) := dk_4 (dk_at dksX14_rowTick_1 3 rfl rfl)
theorem dX14_rowTick_26 : decode cX14_rowTick 26 = .ok (.iadd, 1) := dk_96 (dk_at dksX14_rowTick_1 4 rfl rfl)
theorem dX14_rowTick_27 : decode cX14_rowTick 27 = .ok (.putfield 310, 3) := dk_181 1 54 (dk_at dksX14_rowTick_1 5 rfl rfl)
theorem dX14_rowTick_30 : decode cX14_rowTick 30 = .ok (.aload_n 0, 1) := dk_42 (dk_at dksX14_rowTick_1 8 rfl rfl)
theorem dX14_rowTick_31 : decode cX14_rowTick 31 = .ok (.dup, 1) := dk_89 (dk_at dksX14_rowTick_1 9 rfl rfl)
theorem dX14_rowTick_32 : decode cX14_rowTick 32 = .ok (.getfield 313, 3) := dk_180 1 57 (dk_at dksX14_rowTick_1 10 rfl rfl)
theorem dX14_rowTick_35 : decode cX14_rowTick 35 = .ok (.iconst 1, 1) := dk_4 (dk_at dksX14_rowTick_1 13 rfl rfl)
theorem dX14_rowTick_36 : decode cX14_rowTick 36 = .ok (.isub, 1) := dk_100 (dk_at dksX14_rowTick_1 14 rfl rfl)
theorem dX14_rowTick_37 : decode cX14_rowTick 37 = .ok (.putfield 313, 3) := dk_181 1 57 (dk_at dksX14_rowTick_1 15 rfl rfl)
theorem dX14_rowTick_40 : decode cX14_rowTick 40 = .ok (.iconst 0, 1) := dk_3 (dk_at dksX14_rowTick_1 18 rfl rfl)
theorem dX14_rowTick_41 : decode cX14_rowTick 41 = .ok (.istore_n 1, 1) := dk_60 (dk_at dksX14_rowTick_1 19 rfl rfl)
theorem dX14_rowTick_42 : decode cX14_rowTick 42 = .ok (.iload_n 1, 1) := dk_27 (dk_at dksX14_rowTick_1 20 rfl rfl)
theorem dX14_rowTick_43 : decode cX14_rowTick 43 = .ok (.aload_n 0, 1) := dk_42 (dk_at dksX14_rowTick_1 21 rfl rfl)
theorem dX14_rowTick_44 : decode cX14_rowTick 44 = .ok (.getfield 313, 3) := dk_180 1 57 (dk_at dksX14_rowTick_2 0 rfl rfl)
theorem dX14_rowTick_47 : decode cX14_rowTick 47 = .ok (.if_icmp .ge 23, 3) := dk_162 0 23 (dk_at dksX14_rowTick_2 3 rfl rfl)
theorem dX14_rowTick_50 : decode cX14_rowTick 50 = .ok (.aload_n 0, 1) := dk_42 (dk_at dksX14_rowTick_2 6 rfl rfl)
theorem dX14_rowTick_51 : decode cX14_rowTick 51 = .ok (.getfield 60, 3) := dk_180 0 60 (dk_at dksX14_rowTick_2 7 rfl rfl)
theorem dX14_rowTick_54 : decode cX14_rowTick 54 = .ok (.iload_n 1, 1) := dk_27 (dk_at dksX14_rowTick_2 10 rfl rfl)
theorem dX14_rowTick_55 : decode cX14_rowTick 55 = .ok (.aload_n 0, 1) := dk_42 (dk_at dksX14_rowTick_2 11 rfl rfl)
theorem dX14_rowTick_56 : decode cX14_rowTick 56 = .ok (.getfield 60, 3) := dk_180 0 60 (dk_at dksX14_rowTick_2 12 rfl rfl)
theorem dX14_rowTick_59 : decode cX14_rowTick 59 = .ok (.iload_n 1, 1) := dk_27 (dk_at dksX14_rowTick_2 15 rfl rfl)
theorem dX14_rowTick_60 : decode cX14_rowTick 60 = .ok (.iconst 1, 1) := dk_4 (dk_at dksX14_rowTick_2 16 rfl rfl)
theorem dX14_rowTick_61 : decode cX14_rowTick 61 = .ok (.iadd, 1) := dk_96 (dk_at dksX14_rowTick_2 17 rfl rfl)
theorem dX14_rowTick_62 : decode cX14_rowTick 62 = .ok (.iaload, 1) := dk_46 (dk_at dksX14_rowTick_2 18 rfl rfl)
theorem dX14_rowTick_63 : decode cX14_rowTick 63 = .ok (.iastore, 1) := dk_79 (dk_at dksX14_rowTick_2 19 rfl rfl)
theorem dX14_rowTick_64 : decode cX14_rowTick 64 = .ok (.iinc 1 1, 3) := dk_132 1 1 (dk_at dksX14_rowTick_2 20 rfl rfl)
theorem dX14_rowTick_67 : decode cX14_rowTick 67 = .ok (.goto (-25), 3) := dk_167 255 231 (dk_at dksX14_rowTick_3 0 rfl rfl)
theorem dX14_rowTick_70 : decode cX14_rowTick 70 = .ok (.goto (-70), 3) := dk_167 255 186 (dk_at dksX14_rowTick_3 3 rfl rfl)
theorem dX14_rowTick_73 : decode cX14_rowTick 73 = .ok (.aload_n 0, 1) := dk_42 (dk_at dksX14_rowTick_3 6 rfl rfl)
theorem dX14_rowTick_74 : decode cX14_rowTick 74 = .ok (.getfield 304, 3) := dk_180 1 48 (dk_at dksX14_rowTick_3 7 rfl rfl)
theorem dX14_rowTick_77 : decode cX14_rowTick 77 = .ok (.iconst 1, 1) := dk_4 (dk_at dksX14_rowTick_3 10 rfl rfl)
theorem dX14_rowTick_78 : decode cX14_rowTick 78 = .ok (.isub, 1) := dk_100 (dk_at dksX14_rowTick_3 11 rfl rfl)
theorem dX14_rowTick_79 : decode cX14_rowTick 79 = .ok (.istore_n 1, 1) := dk_60 (dk_at dksX14_rowTick_3 12 rfl rfl)
theorem dX14_rowTick_80 : decode cX14_rowTick 80 = .ok (.iload_n 1, 1) := dk_27 (dk_at dksX14_rowTick_3 13 rfl rfl)
theorem dX14_rowTick_81 : decode cX14_rowTick 81 = .ok (.ifCond .lt 56, 3) := dk_155 0 56 (dk_at dksX14_rowTick_3 14 rfl rfl)
theorem dX14_rowTick_84 : decode cX14_rowTick 84 = .ok (.aload_n 0, 1) := dk_42 (dk_at dksX14_rowTick_3 17 rfl rfl)
theorem dX14_rowTick_85 : decode cX14_rowTick 85 = .ok (.getfield 42, 3) := dk_180 0 42 (dk_at dksX14_rowTick_3 18 rfl rfl)
theorem dX14_rowTick_88 : decode cX14_rowTick 88 = .ok (.iload_n 1, 1) := dk_27 (dk_at dksX14_rowTick_3 21 rfl rfl)
theorem dX14_rowTick_89 : decode cX14_rowTick 89 = .ok (.iaload, 1) := dk_46 (dk_at dksX14_rowTick_3 22 rfl rfl)
theorem dX14_rowTick_90 : decode cX14_rowTick 90 = .ok (.ifCond .le 27, 3) := dk_158 0 27 (dk_at dksX14_rowTick_4 0 rfl rfl)
theorem dX14_rowTick_93 : decode cX14_rowTick 93 = .ok (.aload_n 0, 1) := dk_42 (dk_at dksX14_rowTick_4 3 rfl rfl)
theorem dX14_rowTick_94 : decode cX14_rowTick 94 = .ok (.getfield 42, 3) := dk_180 0 42 (dk_at dksX14_rowTick_4 4 rfl rfl)
theorem dX14_rowTick_97 : decode cX14_rowTick 97 = .ok (.iload_n 1, 1) := dk_27 (dk_at dksX14_rowTick_4 7 rfl rfl)
theorem dX14_rowTick_98 : decode cX14_rowTick 98 = .ok (.dup2, 1) := dk_92 (dk_at dksX14_rowTick_4 8 rfl rfl)
theorem dX14_rowTick_99 : decode cX14_rowTick 99 = .ok (.iaload, 1) := dk_46 (dk_at dksX14_rowTick_4 9 rfl rfl)
theorem dX14_rowTick_100 : decode cX14_rowTick 100 = .ok (.iconst 1, 1) := dk_4 (dk_at dksX14_rowTick_4 10 rfl rfl)
theorem dX14_rowTick_101 : decode cX14_rowTick 101 = .ok (.isub, 1) := dk_100 (dk_at dksX14_rowTick_4 11 rfl rfl)
theorem dX14_rowTick_102 : decode cX14_rowTick 102 = .ok (.iastore, 1) := dk_79 (dk_at dksX14_rowTick_4 12 rfl rfl)
theorem dX14_rowTick_103 : decode cX14_rowTick 103 = .ok (.aload_n 0, 1) := dk_42 (dk_at dksX14_rowTick_4 13 rfl rfl)
theorem dX14_rowTick_104 : decode cX14_rowTick 104 = .ok (.getfield 42, 3) := dk_180 0 42 (dk_at dksX14_rowTick_4 14 rfl rfl)
theorem dX14_rowTick_107 : decode cX14_rowTick 107 = .ok (.iload_n 1, 1) := dk_27 (dk_at dksX14_rowTick_4 17 rfl rfl)
theorem dX14_rowTick_108 : decode cX14_rowTick 108 = .ok (.iaload, 1) := dk_46 (dk_at dksX14_rowTick_4 18 rfl rfl)
theorem dX14_rowTick_109 : decode cX14_rowTick 109 = .ok (.ifCond .ne 8, 3) := dk_154 0 8 (dk_at dksX14_rowTick_4 19 rfl rfl)
theorem dX14_rowTick_112 : decode cX14_rowTick 112 = .ok (.aload_n 0, 1) := dk_42 (dk_at dksX14_rowTick_4 22 rfl rfl)
theorem dX14_rowTick_113 : decode cX14_rowTick 113 = .ok (.iload_n 1, 1) := dk_27 (dk_at dksX14_rowTick_4 23 rfl rfl)
theorem dX14_rowTick_114 : decode cX14_rowTick 114 = .ok (.invokevirtual 351, 3) := dk_182 1 95 (dk_at dksX14_rowTick_5 0 rfl rfl)
theorem dX14_rowTick_117 : decode cX14_rowTick 117 = .ok (.aload_n 0, 1) := dk_42 (dk_at dksX14_rowTick_5 3 rfl rfl)
theorem dX14_rowTick_118 : decode cX14_rowTick 118 = .ok (.getfield 42, 3) := dk_180 0 42 (dk_at dksX14_rowTick_5 4 rfl rfl)
theorem dX14_rowTick_121 : decode cX14_rowTick 121 = .ok (.iload_n 1, 1) := dk_27 (dk_at dksX14_rowTick_5 7 rfl rfl)
theorem dX14_rowTick_122 : decode cX14_rowTick 122 = .ok (.iaload, 1) := dk_46 (dk_at dksX14_rowTick_5 8 rfl rfl)
theorem dX14_rowTick_123 : decode cX14_rowTick 123 = .ok (.ifCond .ne 8, 3) := dk_154 0 8 (dk_at dksX14_rowTick_5 9 rfl rfl)
theorem dX14_rowTick_126 : decode cX14_rowTick 126 = .ok (.aload_n 0, 1) := dk_42 (dk_at dksX14_rowTick_5 12 rfl rfl)
theorem dX14_rowTick_127 : decode cX14_rowTick 127 = .ok (.iload_n 1, 1) := dk_27 (dk_at dksX14_rowTick_5 13 rfl rfl)
theorem dX14_rowTick_128 : decode cX14_rowTick 128 = .ok (.invokevirtual 354, 3) := dk_182 1 98 (dk_at dksX14_rowTick_5 14 rfl rfl)
theorem dX14_rowTick_131 : decode cX14_rowTick 131 = .ok (.iinc 1 (-1), 3) := dk_132 1 255 (dk_at dksX14_rowTick_5 17 rfl rfl)
theorem dX14_rowTick_134 : decode cX14_rowTick 134 = .ok (.goto (-54), 3) := dk_167 255 202 (dk_at dksX14_rowTick_5 20 rfl rfl)
theorem dX14_rowTick_137 : decode cX14_rowTick 137 = .ok (.iconst 1, 1) := dk_4 (dk_at dksX14_rowTick_5 23 rfl rfl)
theorem dX14_rowTick_138 : decode cX14_rowTick 138 = .ok (.istore_n 1, 1) := dk_60 (dk_at dksX14_rowTick_6 0 rfl rfl)
theorem dX14_rowTick_139 : decode cX14_rowTick 139 = .ok (.iload_n 1, 1) := dk_27 (dk_at dksX14_rowTick_6 1 rfl rfl)
theorem dX14_rowTick_140 : decode cX14_rowTick 140 = .ok (.aload_n 0, 1) := dk_42 (dk_at dksX14_rowTick_6 2 rfl rfl)
theorem dX14_rowTick_141 : decode cX14_rowTick 141 = .ok (.getfield 304, 3) := dk_180 1 48 (dk_at dksX14_rowTick_6 3 rfl rfl)
theorem dX14_rowTick_144 : decode cX14_rowTick 144 = .ok (.if_icmp .ge 36, 3) := dk_162 0 36 (dk_at dksX14_rowTick_6 6 rfl rfl)
theorem dX14_rowTick_147 : decode cX14_rowTick 147 = .ok (.aload_n 0, 1) := dk_42 (dk_at dksX14_rowTick_6 9 rfl rfl)
theorem dX14_rowTick_148 : decode cX14_rowTick 148 = .ok (.getfield 54, 3) := dk_180 0 54 (dk_at dksX14_rowTick_6 10 rfl rfl)
theorem dX14_rowTick_151 : decode cX14_rowTick 151 = .ok (.iload_n 1, 1) := dk_27 (dk_at dksX14_rowTick_6 13 rfl rfl)
theorem dX14_rowTick_152 : decode cX14_rowTick 152 = .ok (.iaload, 1) := dk_46 (dk_at dksX14_rowTick_6 14 rfl rfl)
theorem dX14_rowTick_153 : decode cX14_rowTick 153 = .ok (.aload_n 0, 1) := dk_42 (dk_at dksX14_rowTick_6 15 rfl rfl)
theorem dX14_rowTick_154 : decode cX14_rowTick 154 = .ok (.getfield 57, 3) := dk_180 0 57 (dk_at dksX14_rowTick_6 16 rfl rfl)
theorem dX14_rowTick_157 : decode cX14_rowTick 157 = .ok (.iload_n 1, 1) := dk_27 (dk_at dksX14_rowTick_6 19 rfl rfl)
theorem dX14_rowTick_158 : decode cX14_rowTick 158 = .ok (.iaload, 1) := dk_46 (dk_at dksX14_rowTick_6 20 rfl rfl)
theorem dX14_rowTick_159 : decode cX14_rowTick 159 = .ok (.if_icmp .le 15, 3) := dk_164 0 15 (dk_at dksX14_rowTick_6 21 rfl rfl)
theorem dX14_rowTick_162 : decode cX14_rowTick 162 = .ok (.aload_n 0, 1) := dk_42 (dk_at dksX14_rowTick_7 0 rfl rfl)
theorem dX14_rowTick_163 : decode cX14_rowTick 163 = .ok (.getfield 57, 3) := dk_180 0 57 (dk_at dksX14_rowTick_7 1 rfl rfl)
theorem dX14_rowTick_166 : decode cX14_rowTick 166 = .ok (.iload_n 1, 1) := dk_27 (dk_at dksX14_rowTick_7 4 rfl rfl)
theorem dX14_rowTick_167 : decode cX14_rowTick 167 = .ok (.aload_n 0, 1) := dk_42 (dk_at dksX14_rowTick_7 5 rfl rfl)
theorem dX14_rowTick_168 : decode cX14_rowTick 168 = .ok (.getfield 54, 3) := dk_180 0 54 (dk_at dksX14_rowTick_7 6 rfl rfl)
theorem dX14_rowTick_171 : decode cX14_rowTick 171 = .ok (.iload_n 1, 1) := dk_27 (dk_at dksX14_rowTick_7 9 rfl rfl)
theorem dX14_rowTick_172 : decode cX14_rowTick 172 = .ok (.iaload, 1) := dk_46 (dk_at dksX14_rowTick_7 10 rfl rfl)
theorem dX14_rowTick_173 : decode cX14_rowTick 173 = .ok (.iastore, 1) := dk_79 (dk_at dksX14_rowTick_7 11 rfl rfl)
theorem dX14_rowTick_174 : decode cX14_rowTick 174 = .ok (.iinc 1 1, 3) := dk_132 1 1 (dk_at dksX14_rowTick_7 12 rfl rfl)
theorem dX14_rowTick_177 : decode cX14_rowTick 177 = .ok (.goto (-38), 3) := dk_167 255 218 (dk_at dksX14_rowTick_7 15 rfl rfl)
theorem dX14_rowTick_180 : decode cX14_rowTick 180 = .ok (.return_, 1) := dk_177 (dk_at dksX14_rowTick_7 18 rfl rfl)
abbrev cX14_finishes : ByteArray := prog_23_method_47_code
def yX14_finishes : MethodName := ⟨RX14, "finishes", "(I)V"⟩
def dkwX14_finishes_5 : List UInt8 := [46, 28, 100, 182, 1, 81, 42, 180, 0, 45, 27, 3, 79, 177]
abbrev dktX14_finishes_5 : List UInt8 := dkwX14_finishes_5 ++ []
def dkwX14_finishes_4 : List UInt8 := [104, 16, 100, 108, 61, 42, 89, 180, 1, 63, 28, 96, 181, 1, 63, 42, 27, 4, 96, 42, 180, 0, 45, 27]
abbrev dktX14_finishes_4 : List UInt8 := dkwX14_finishes_4 ++ dktX14_finishes_5
def dkwX14_finishes_3 : List UInt8 := [180, 1, 57, 4, 96, 181, 1, 57, 167, 0, 46, 42, 180, 0, 45, 27, 46, 42, 180, 0, 13, 16, 6, 46]
abbrev dktX14_finishes_3 : List UInt8 := dkwX14_finishes_3 ++ dktX14_finishes_4
def dkwX14_finishes_2 : List UInt8 := [180, 0, 60, 42, 180, 1, 57, 42, 180, 1, 51, 42, 180, 0, 13, 16, 7, 46, 96, 79, 42, 89]
abbrev dktX14_finishes_2 : List UInt8 := dkwX14_finishes_2 ++ dktX14_finishes_3
def dkwX14_finishes_1 : List UInt8 := [180, 1, 60, 42, 180, 0, 45, 27, 46, 96, 181, 1, 60, 42, 89, 180, 1, 66, 4, 96, 181, 1, 66, 42]
abbrev dktX14_finishes_1 : List UInt8 := dkwX14_finishes_1 ++ dktX14_finishes_2
def dkwX14_finishes_0 : List UInt8 := [42, 180, 0, 48, 27, 92, 46, 4, 96, 79, 27, 42, 180, 1, 48, 4, 100, 160, 0, 62, 42, 89]
abbrev dktX14_finishes_0 : List UInt8 := dkwX14_finishes_0 ++ dktX14_finishes_1
theorem dksX14_finishes_0 : cX14_finishes.data.toList.drop 0 = dktX14_finishes_0 := by decide +kernel
theorem dksX14_finishes_1 : cX14_finishes.data.toList.drop 22 = dktX14_finishes_1 := dk_seg dksX14_finishes_0 22 rfl rfl
theorem dksX14_finishes_2 : cX14_finishes.data.toList.drop 46 = dktX14_finishes_2 := dk_seg dksX14_finishes_1 24 rfl rfl
theorem dksX14_finishes_3 : cX14_finishes.data.toList.drop 68 = dktX14_finishes_3 := dk_seg dksX14_finishes_2 22 rfl rfl
theorem dksX14_finishes_4 : cX14_finishes.data.toList.drop 92 = dktX14_finishes_4 := dk_seg dksX14_finishes_3 24 rfl rfl
theorem dksX14_finishes_5 : cX14_finishes.data.toList.drop 116 = dktX14_finishes_5 := dk_seg dksX14_finishes_4 24 rfl rfl
theorem dX14_finishes_0 : decode cX14_finishes 0 = .ok (.aload_n 0, 1) := dk_42 (dk_at dksX14_finishes_0 0 rfl rfl)
theorem dX14_finishes_1 : decode cX14_finishes 1 = .ok (.getfield 48, 3) := dk_180 0 48 (dk_at dksX14_finishes_0 1 rfl rfl)
theorem dX14_finishes_4 : decode cX14_finishes 4 = .ok (.iload_n 1, 1) := dk_27 (dk_at dksX14_finishes_0 4 rfl rfl)
theorem dX14_finishes_5 : decode cX14_finishes 5 = .ok (.dup2, 1) := dk_92 (dk_at dksX14_finishes_0 5 rfl rfl)
theorem dX14_finishes_6 : decode cX14_finishes 6 = .ok (.iaload, 1) := dk_46 (dk_at dksX14_finishes_0 6 rfl rfl)
theorem dX14_finishes_7 : decode cX14_finishes 7 = .ok (.iconst 1, 1) := dk_4 (dk_at dksX14_finishes_0 7 rfl rfl)
theorem dX14_finishes_8 : decode cX14_finishes 8 = .ok (.iadd, 1) := dk_96 (dk_at dksX14_finishes_0 8 rfl rfl)
theorem dX14_finishes_9 : decode cX14_finishes 9 = .ok (.iastore, 1) := dk_79 (dk_at dksX14_finishes_0 9 rfl rfl)
theorem dX14_finishes_10 : decode cX14_finishes 10 = .ok (.iload_n 1, 1) := dk_27 (dk_at dksX14_finishes_0 10 rfl rfl)
theorem dX14_finishes_11 : decode cX14_finishes 11 = .ok (.aload_n 0, 1) := dk_42 (dk_at dksX14_finishes_0 11 rfl rfl)
theorem dX14_finishes_12 : decode cX14_finishes 12 = .ok (.getfield 304, 3) := dk_180 1 48 (dk_at dksX14_finishes_0 12 rfl rfl)
theorem dX14_finishes_15 : decode cX14_finishes 15 = .ok (.iconst 1, 1) := dk_4 (dk_at dksX14_finishes_0 15 rfl rfl)
theorem dX14_finishes_16 : decode cX14_finishes 16 = .ok (.isub, 1) := dk_100 (dk_at dksX14_finishes_0 16 rfl rfl)
theorem dX14_finishes_17 : decode cX14_finishes 17 = .ok (.if_icmp .ne 62, 3) := dk_160 0 62 (dk_at dksX14_finishes_0 17 rfl rfl)
theorem dX14_finishes_20 : decode cX14_finishes 20 = .ok (.aload_n 0, 1) := dk_42 (dk_at dksX14_finishes_0 20 rfl rfl)
theorem dX14_finishes_21 : decode cX14_finishes 21 = .ok (.dup, 1) := dk_89 (dk_at dksX14_finishes_0 21 rfl rfl)
theorem dX14_finishes_22 : decode cX14_finishes 22 = .ok (.getfield 316, 3) := dk_180 1 60 (dk_at dksX14_finishes_1 0 rfl rfl)
theorem dX14_finishes_25 : decode cX14_finishes 25 = .ok (.aload_n 0, 1) := dk_42 (dk_at dksX14_finishes_1 3 rfl rfl)
theorem dX14_finishes_26 : decode cX14_finishes 26 = .ok (.getfield 45, 3) := dk_180 0 45 (dk_at dksX14_finishes_1 4 rfl rfl)
theorem dX14_finishes_29 : decode cX14_finishes 29 = .ok (.iload_n 1, 1) := dk_27 (dk_at dksX14_finishes_1 7 rfl rfl)
theorem dX14_finishes_30 : decode cX14_finishes 30 = .ok (.iaload, 1) := dk_46 (dk_at dksX14_finishes_1 8 rfl rfl)
theorem dX14_finishes_31 : decode cX14_finishes 31 = .ok (.iadd, 1) := dk_96 (dk_at dksX14_finishes_1 9 rfl rfl)
theorem dX14_finishes_32 : decode cX14_finishes 32 = .ok (.putfield 316, 3) := dk_181 1 60 (dk_at dksX14_finishes_1 10 rfl rfl)
theorem dX14_finishes_35 : decode cX14_finishes 35 = .ok (.aload_n 0, 1) := dk_42 (dk_at dksX14_finishes_1 13 rfl rfl)
theorem dX14_finishes_36 : decode cX14_finishes 36 = .ok (.dup, 1) := dk_89 (dk_at dksX14_finishes_1 14 rfl rfl)
theorem dX14_finishes_37 : decode cX14_finishes 37 = .ok (.getfield 322, 3) := dk_180 1 66 (dk_at dksX14_finishes_1 15 rfl rfl)
theorem dX14_finishes_40 : decode cX14_finishes 40 = .ok (.iconst 1, 1) := dk_4 (dk_at dksX14_finishes_1 18 rfl rfl)
theorem dX14_finishes_41 : decode cX14_finishes 41 = .ok (.iadd, 1) := dk_96 (dk_at dksX14_finishes_1 19 rfl rfl)
theorem dX14_finishes_42 : decode cX14_finishes 42 = .ok (.putfield 322, 3) := dk_181 1 66 (dk_at dksX14_finishes_1 20 rfl rfl)
theorem dX14_finishes_45 : decode cX14_finishes 45 = .ok (.aload_n 0, 1) := dk_42 (dk_at dksX14_finishes_1 23 rfl rfl)
theorem dX14_finishes_46 : decode cX14_finishes 46 = .ok (.getfield 60, 3) := dk_180 0 60 (dk_at dksX14_finishes_2 0 rfl rfl)
theorem dX14_finishes_49 : decode cX14_finishes 49 = .ok (.aload_n 0, 1) := dk_42 (dk_at dksX14_finishes_2 3 rfl rfl)
theorem dX14_finishes_50 : decode cX14_finishes 50 = .ok (.getfield 313, 3) := dk_180 1 57 (dk_at dksX14_finishes_2 4 rfl rfl)
theorem dX14_finishes_53 : decode cX14_finishes 53 = .ok (.aload_n 0, 1) := dk_42 (dk_at dksX14_finishes_2 7 rfl rfl)
theorem dX14_finishes_54 : decode cX14_finishes 54 = .ok (.getfield 307, 3) := dk_180 1 51 (dk_at dksX14_finishes_2 8 rfl rfl)
theorem dX14_finishes_57 : decode cX14_finishes 57 = .ok (.aload_n 0, 1) := dk_42 (dk_at dksX14_finishes_2 11 rfl rfl)
theorem dX14_finishes_58 : decode cX14_finishes 58 = .ok (.getfield 13, 3) := dk_180 0 13 (dk_at dksX14_finishes_2 12 rfl rfl)
theorem dX14_finishes_61 : decode cX14_finishes 61 = .ok (.bipush 7, 2) := dk_16 7 (dk_at dksX14_finishes_2 15 rfl rfl)
theorem dX14_finishes_63 : decode cX14_finishes 63 = .ok (.iaload, 1) := dk_46 (dk_at dksX14_finishes_2 17 rfl rfl)
theorem dX14_finishes_64 : decode cX14_finishes 64 = .ok (.iadd, 1) := dk_96 (dk_at dksX14_finishes_2 18 rfl rfl)
theorem dX14_finishes_65 : decode cX14_finishes 65 = .ok (.iastore, 1) := dk_79 (dk_at dksX14_finishes_2 19 rfl rfl)
theorem dX14_finishes_66 : decode cX14_finishes 66 = .ok (.aload_n 0, 1) := dk_42 (dk_at dksX14_finishes_2 20 rfl rfl)
theorem dX14_finishes_67 : decode cX14_finishes 67 = .ok (.dup, 1) := dk_89 (dk_at dksX14_finishes_2 21 rfl rfl)
theorem dX14_finishes_68 : decode cX14_finishes 68 = .ok (.getfield 313, 3) := dk_180 1 57 (dk_at dksX14_finishes_3 0 rfl rfl)
theorem dX14_finishes_71 : decode cX14_finishes 71 = .ok (.iconst 1, 1) := dk_4 (dk_at dksX14_finishes_3 3 rfl rfl)
theorem dX14_finishes_72 : decode cX14_finishes 72 = .ok (.iadd, 1) := dk_96 (dk_at dksX14_finishes_3 4 rfl rfl)
theorem dX14_finishes_73 : decode cX14_finishes 73 = .ok (.putfield 313, 3) := dk_181 1 57 (dk_at dksX14_finishes_3 5 rfl rfl)
theorem dX14_finishes_76 : decode cX14_finishes 76 = .ok (.goto 46, 3) := dk_167 0 46 (dk_at dksX14_finishes_3 8 rfl rfl)
theorem dX14_finishes_79 : decode cX14_finishes 79 = .ok (.aload_n 0, 1) := dk_42 (dk_at dksX14_finishes_3 11 rfl rfl)
theorem dX14_finishes_80 : decode cX14_finishes 80 = .ok (.getfield 45, 3) := dk_180 0 45 (dk_at dksX14_finishes_3 12 rfl rfl)
theorem dX14_finishes_83 : decode cX14_finishes 83 = .ok (.iload_n 1, 1) := dk_27 (dk_at dksX14_finishes_3 15 rfl rfl)
theorem dX14_finishes_84 : decode cX14_finishes 84 = .ok (.iaload, 1) := dk_46 (dk_at dksX14_finishes_3 16 rfl rfl)
theorem dX14_finishes_85 : decode cX14_finishes 85 = .ok (.aload_n 0, 1) := dk_42 (dk_at dksX14_finishes_3 17 rfl rfl)
theorem dX14_finishes_86 : decode cX14_finishes 86 = .ok (.getfield 13, 3) := dk_180 0 13 (dk_at dksX14_finishes_3 18 rfl rfl)
theorem dX14_finishes_89 : decode cX14_finishes 89 = .ok (.bipush 6, 2) := dk_16 6 (dk_at dksX14_finishes_3 21 rfl rfl)
theorem dX14_finishes_91 : decode cX14_finishes 91 = .ok (.iaload, 1) := dk_46 (dk_at dksX14_finishes_3 23 rfl rfl)
theorem dX14_finishes_92 : decode cX14_finishes 92 = .ok (.imul, 1) := dk_104 (dk_at dksX14_finishes_4 0 rfl rfl)
theorem dX14_finishes_93 : decode cX14_finishes 93 = .ok (.bipush 100, 2) := dk_16 100 (dk_at dksX14_finishes_4 1 rfl rfl)
theorem dX14_finishes_95 : decode cX14_finishes 95 = .ok (.idiv, 1) := dk_108 (dk_at dksX14_finishes_4 3 rfl rfl)
theorem dX14_finishes_96 : decode cX14_finishes 96 = .ok (.istore_n 2, 1) := dk_61 (dk_at dksX14_finishes_4 4 rfl rfl)
theorem dX14_finishes_97 : decode cX14_finishes 97 = .ok (.aload_n 0, 1) := dk_42 (dk_at dksX14_finishes_4 5 rfl rfl)
theorem dX14_finishes_98 : decode cX14_finishes 98 = .ok (.dup, 1) := dk_89 (dk_at dksX14_finishes_4 6 rfl rfl)
theorem dX14_finishes_99 : decode cX14_finishes 99 = .ok (.getfield 319, 3) := dk_180 1 63 (dk_at dksX14_finishes_4 7 rfl rfl)
theorem dX14_finishes_102 : decode cX14_finishes 102 = .ok (.iload_n 2, 1) := dk_28 (dk_at dksX14_finishes_4 10 rfl rfl)
theorem dX14_finishes_103 : decode cX14_finishes 103 = .ok (.iadd, 1) := dk_96 (dk_at dksX14_finishes_4 11 rfl rfl)
theorem dX14_finishes_104 : decode cX14_finishes 104 = .ok (.putfield 319, 3) := dk_181 1 63 (dk_at dksX14_finishes_4 12 rfl rfl)
theorem dX14_finishes_107 : decode cX14_finishes 107 = .ok (.aload_n 0, 1) := dk_42 (dk_at dksX14_finishes_4 15 rfl rfl)
theorem dX14_finishes_108 : decode cX14_finishes 108 = .ok (.iload_n 1, 1) := dk_27 (dk_at dksX14_finishes_4 16 rfl rfl)
theorem dX14_finishes_109 : decode cX14_finishes 109 = .ok (.iconst 1, 1) := dk_4 (dk_at dksX14_finishes_4 17 rfl rfl)
theorem dX14_finishes_110 : decode cX14_finishes 110 = .ok (.iadd, 1) := dk_96 (dk_at dksX14_finishes_4 18 rfl rfl)
theorem dX14_finishes_111 : decode cX14_finishes 111 = .ok (.aload_n 0, 1) := dk_42 (dk_at dksX14_finishes_4 19 rfl rfl)
theorem dX14_finishes_112 : decode cX14_finishes 112 = .ok (.getfield 45, 3) := dk_180 0 45 (dk_at dksX14_finishes_4 20 rfl rfl)
theorem dX14_finishes_115 : decode cX14_finishes 115 = .ok (.iload_n 1, 1) := dk_27 (dk_at dksX14_finishes_4 23 rfl rfl)
theorem dX14_finishes_116 : decode cX14_finishes 116 = .ok (.iaload, 1) := dk_46 (dk_at dksX14_finishes_5 0 rfl rfl)
theorem dX14_finishes_117 : decode cX14_finishes 117 = .ok (.iload_n 2, 1) := dk_28 (dk_at dksX14_finishes_5 1 rfl rfl)
theorem dX14_finishes_118 : decode cX14_finishes 118 = .ok (.isub, 1) := dk_100 (dk_at dksX14_finishes_5 2 rfl rfl)
theorem dX14_finishes_119 : decode cX14_finishes 119 = .ok (.invokevirtual 337, 3) := dk_182 1 81 (dk_at dksX14_finishes_5 3 rfl rfl)
theorem dX14_finishes_122 : decode cX14_finishes 122 = .ok (.aload_n 0, 1) := dk_42 (dk_at dksX14_finishes_5 6 rfl rfl)
theorem dX14_finishes_123 : decode cX14_finishes 123 = .ok (.getfield 45, 3) := dk_180 0 45 (dk_at dksX14_finishes_5 7 rfl rfl)
theorem dX14_finishes_126 : decode cX14_finishes 126 = .ok (.iload_n 1, 1) := dk_27 (dk_at dksX14_finishes_5 10 rfl rfl)
theorem dX14_finishes_127 : decode cX14_finishes 127 = .ok (.iconst 0, 1) := dk_3 (dk_at dksX14_finishes_5 11 rfl rfl)
theorem dX14_finishes_128 : decode cX14_finishes 128 = .ok (.iastore, 1) := dk_79 (dk_at dksX14_finishes_5 12 rfl rfl)
theorem dX14_finishes_129 : decode cX14_finishes 129 = .ok (.return_, 1) := dk_177 (dk_at dksX14_finishes_5 13 rfl rfl)
abbrev cX14_push : ByteArray := prog_23_method_45_code
def yX14_push : MethodName := ⟨RX14, "push", "(II)V"⟩
def dkwX14_push_1 : List UInt8 := [4, 96, 79, 177]
abbrev dktX14_push_1 : List UInt8 := dkwX14_push_1 ++ []
def dkwX14_push_0 : List UInt8 := [42, 180, 0, 51, 16, 30, 27, 104, 42, 180, 0, 54, 27, 46, 96, 28, 79, 42, 180, 0, 54, 27, 92, 46]
abbrev dktX14_push_0 : List UInt8 := dkwX14_push_0 ++ dktX14_push_1
theorem dksX14_push_0 : cX14_push.data.toList.drop 0 = dktX14_push_0 := by decide +kernel
theorem dksX14_push_1 : cX14_push.data.toList.drop 24 = dktX14_push_1 := dk_seg dksX14_push_0 24 rfl rfl
theorem dX14_push_0 : decode cX14_push 0 = .ok (.aload_n 0, 1) := dk_42 (dk_at dksX14_push_0 0 rfl rfl)
theorem dX14_push_1 : decode cX14_push 1 = .ok (.getfield 51, 3) := dk_180 0 51 (dk_at dksX14_push_0 1 rfl rfl)
theorem dX14_push_4 : decode cX14_push 4 = .ok (.bipush 30, 2) := dk_16 30 (dk_at dksX14_push_0 4 rfl rfl)
theorem dX14_push_6 : decode cX14_push 6 = .ok (.iload_n 1, 1) := dk_27 (dk_at dksX14_push_0 6 rfl rfl)
theorem dX14_push_7 : decode cX14_push 7 = .ok (.imul, 1) := dk_104 (dk_at dksX14_push_0 7 rfl rfl)
theorem dX14_push_8 : decode cX14_push 8 = .ok (.aload_n 0, 1) := dk_42 (dk_at dksX14_push_0 8 rfl rfl)
theorem dX14_push_9 : decode cX14_push 9 = .ok (.getfield 54, 3) := dk_180 0 54 (dk_at dksX14_push_0 9 rfl rfl)
theorem dX14_push_12 : decode cX14_push 12 = .ok (.iload_n 1, 1) := dk_27 (dk_at dksX14_push_0 12 rfl rfl)
theorem dX14_push_13 : decode cX14_push 13 = .ok (.iaload, 1) := dk_46 (dk_at dksX14_push_0 13 rfl rfl)
theorem dX14_push_14 : decode cX14_push 14 = .ok (.iadd, 1) := dk_96 (dk_at dksX14_push_0 14 rfl rfl)
theorem dX14_push_15 : decode cX14_push 15 = .ok (.iload_n 2, 1) := dk_28 (dk_at dksX14_push_0 15 rfl rfl)
theorem dX14_push_16 : decode cX14_push 16 = .ok (.iastore, 1) := dk_79 (dk_at dksX14_push_0 16 rfl rfl)
theorem dX14_push_17 : decode cX14_push 17 = .ok (.aload_n 0, 1) := dk_42 (dk_at dksX14_push_0 17 rfl rfl)
theorem dX14_push_18 : decode cX14_push 18 = .ok (.getfield 54, 3) := dk_180 0 54 (dk_at dksX14_push_0 18 rfl rfl)
theorem dX14_push_21 : decode cX14_push 21 = .ok (.iload_n 1, 1) := dk_27 (dk_at dksX14_push_0 21 rfl rfl)
theorem dX14_push_22 : decode cX14_push 22 = .ok (.dup2, 1) := dk_92 (dk_at dksX14_push_0 22 rfl rfl)
theorem dX14_push_23 : decode cX14_push 23 = .ok (.iaload, 1) := dk_46 (dk_at dksX14_push_0 23 rfl rfl)
theorem dX14_push_24 : decode cX14_push 24 = .ok (.iconst 1, 1) := dk_4 (dk_at dksX14_push_1 0 rfl rfl)
theorem dX14_push_25 : decode cX14_push 25 = .ok (.iadd, 1) := dk_96 (dk_at dksX14_push_1 1 rfl rfl)
theorem dX14_push_26 : decode cX14_push 26 = .ok (.iastore, 1) := dk_79 (dk_at dksX14_push_1 2 rfl rfl)
theorem dX14_push_27 : decode cX14_push 27 = .ok (.return_, 1) := dk_177 (dk_at dksX14_push_1 3 rfl rfl)
abbrev cX14_takesUp : ByteArray := prog_23_method_48_code
def yX14_takesUp : MethodName := ⟨RX14, "takesUp", "(I)V"⟩
def dkwX14_takesUp_5 : List UInt8 := [177]
abbrev dktX14_takesUp_5 : List UInt8 := dkwX14_takesUp_5 ++ []
def dkwX14_takesUp_4 : List UInt8 := [180, 0, 48, 27, 46, 16, 10, 42, 28, 5, 182, 1, 38, 104, 161, 0, 7, 5, 167, 0, 4, 4, 104, 79]
abbrev dktX14_takesUp_4 : List UInt8 := dkwX14_takesUp_4 ++ dktX14_takesUp_5
def dkwX14_takesUp_3 : List UInt8 := [180, 0, 39, 27, 46, 61, 42, 180, 0, 42, 27, 42, 27, 42, 180, 1, 48, 28, 182, 1, 91, 42]
abbrev dktX14_takesUp_3 : List UInt8 := dkwX14_takesUp_3 ++ dktX14_takesUp_4
def dkwX14_takesUp_2 : List UInt8 := [180, 0, 45, 3, 42, 182, 1, 85, 79, 167, 0, 14, 42, 180, 0, 45, 27, 42, 27, 182, 1, 88, 79, 42]
abbrev dktX14_takesUp_2 : List UInt8 := dkwX14_takesUp_2 ++ dktX14_takesUp_3
def dkwX14_takesUp_1 : List UInt8 := [180, 0, 54, 27, 46, 154, 0, 4, 177, 27, 154, 0, 26, 42, 89, 180, 1, 54, 4, 100, 181, 1, 54, 42]
abbrev dktX14_takesUp_1 : List UInt8 := dkwX14_takesUp_1 ++ dktX14_takesUp_2
def dkwX14_takesUp_0 : List UInt8 := [27, 154, 0, 20, 42, 180, 1, 54, 153, 0, 22, 42, 180, 1, 78, 154, 0, 16, 167, 0, 12, 42]
abbrev dktX14_takesUp_0 : List UInt8 := dkwX14_takesUp_0 ++ dktX14_takesUp_1
theorem dksX14_takesUp_0 : cX14_takesUp.data.toList.drop 0 = dktX14_takesUp_0 := by decide +kernel
theorem dksX14_takesUp_1 : cX14_takesUp.data.toList.drop 22 = dktX14_takesUp_1 := dk_seg dksX14_takesUp_0 22 rfl rfl
theorem dksX14_takesUp_2 : cX14_takesUp.data.toList.drop 46 = dktX14_takesUp_2 := dk_seg dksX14_takesUp_1 24 rfl rfl
theorem dksX14_takesUp_3 : cX14_takesUp.data.toList.drop 70 = dktX14_takesUp_3 := dk_seg dksX14_takesUp_2 24 rfl rfl
theorem dksX14_takesUp_4 : cX14_takesUp.data.toList.drop 92 = dktX14_takesUp_4 := dk_seg dksX14_takesUp_3 22 rfl rfl
theorem dksX14_takesUp_5 : cX14_takesUp.data.toList.drop 116 = dktX14_takesUp_5 := dk_seg dksX14_takesUp_4 24 rfl rfl
theorem dX14_takesUp_0 : decode cX14_takesUp 0 = .ok (.iload_n 1, 1) := dk_27 (dk_at dksX14_takesUp_0 0 rfl rfl)
theorem dX14_takesUp_1 : decode cX14_takesUp 1 = .ok (.ifCond .ne 20, 3) := dk_154 0 20 (dk_at dksX14_takesUp_0 1 rfl rfl)
theorem dX14_takesUp_4 : decode cX14_takesUp 4 = .ok (.aload_n 0, 1) := dk_42 (dk_at dksX14_takesUp_0 4 rfl rfl)
theorem dX14_takesUp_5 : decode cX14_takesUp 5 = .ok (.getfield 310, 3) := dk_180 1 54 (dk_at dksX14_takesUp_0 5 rfl rfl)
theorem dX14_takesUp_8 : decode cX14_takesUp 8 = .ok (.ifCond .eq 22, 3) := dk_153 0 22 (dk_at dksX14_takesUp_0 8 rfl rfl)
theorem dX14_takesUp_11 : decode cX14_takesUp 11 = .ok (.aload_n 0, 1) := dk_42 (dk_at dksX14_takesUp_0 11 rfl rfl)
theorem dX14_takesUp_12 : decode cX14_takesUp 12 = .ok (.getfield 334, 3) := dk_180 1 78 (dk_at dksX14_takesUp_0 12 rfl rfl)
theorem dX14_takesUp_15 : decode cX14_takesUp 15 = .ok (.ifCond .ne 16, 3) := dk_154 0 16 (dk_at dksX14_takesUp_0 15 rfl rfl)
theorem dX14_takesUp_18 : decode cX14_takesUp 18 = .ok (.goto 12, 3) := dk_167 0 12 (dk_at dksX14_takesUp_0 18 rfl rfl)
theorem dX14_takesUp_21 : decode cX14_takesUp 21 = .ok (.aload_n 0, 1) := dk_42 (dk_at dksX14_takesUp_0 21 rfl rfl)
theorem dX14_takesUp_22 : decode cX14_takesUp 22 = .ok (.getfield 54, 3) := dk_180 0 54 (dk_at dksX14_takesUp_1 0 rfl rfl)
theorem dX14_takesUp_25 : decode cX14_takesUp 25 = .ok (.iload_n 1, 1) := dk_27 (dk_at dksX14_takesUp_1 3 rfl rfl)
theorem dX14_takesUp_26 : decode cX14_takesUp 26 = .ok (.iaload, 1) := dk_46 (dk_at dksX14_takesUp_1 4 rfl rfl)
theorem dX14_takesUp_27 : decode cX14_takesUp 27 = .ok (.ifCond .ne 4, 3) := dk_154 0 4 (dk_at dksX14_takesUp_1 5 rfl rfl)
theorem dX14_takesUp_30 : decode cX14_takesUp 30 = .ok (.return_, 1) := dk_177 (dk_at dksX14_takesUp_1 8 rfl rfl)
theorem dX14_takesUp_31 : decode cX14_takesUp 31 = .ok (.iload_n 1, 1) := dk_27 (dk_at dksX14_takesUp_1 9 rfl rfl)
theorem dX14_takesUp_32 : decode cX14_takesUp 32 = .ok (.ifCond .ne 26, 3) := dk_154 0 26 (dk_at dksX14_takesUp_1 10 rfl rfl)
theorem dX14_takesUp_35 : decode cX14_takesUp 35 = .ok (.aload_n 0, 1) := dk_42 (dk_at dksX14_takesUp_1 13 rfl rfl)
theorem dX14_takesUp_36 : decode cX14_takesUp 36 = .ok (.dup, 1) := dk_89 (dk_at dksX14_takesUp_1 14 rfl rfl)
theorem dX14_takesUp_37 : decode cX14_takesUp 37 = .ok (.getfield 310, 3) := dk_180 1 54 (dk_at dksX14_takesUp_1 15 rfl rfl)
theorem dX14_takesUp_40 : decode cX14_takesUp 40 = .ok (.iconst 1, 1) := dk_4 (dk_at dksX14_takesUp_1 18 rfl rfl)
theorem dX14_takesUp_41 : decode cX14_takesUp 41 = .ok (.isub, 1) := dk_100 (dk_at dksX14_takesUp_1 19 rfl rfl)
theorem dX14_takesUp_42 : decode cX14_takesUp 42 = .ok (.putfield 310, 3) := dk_181 1 54 (dk_at dksX14_takesUp_1 20 rfl rfl)
theorem dX14_takesUp_45 : decode cX14_takesUp 45 = .ok (.aload_n 0, 1) := dk_42 (dk_at dksX14_takesUp_1 23 rfl rfl)
theorem dX14_takesUp_46 : decode cX14_takesUp 46 = .ok (.getfield 45, 3) := dk_180 0 45 (dk_at dksX14_takesUp_2 0 rfl rfl)
theorem dX14_takesUp_49 : decode cX14_takesUp 49 = .ok (.iconst 0, 1) := dk_3 (dk_at dksX14_takesUp_2 3 rfl rfl)
theorem dX14_takesUp_50 : decode cX14_takesUp 50 = .ok (.aload_n 0, 1) := dk_42 (dk_at dksX14_takesUp_2 4 rfl rfl)
theorem dX14_takesUp_51 : decode cX14_takesUp 51 = .ok (.invokevirtual 341, 3) := dk_182 1 85 (dk_at dksX14_takesUp_2 5 rfl rfl)
theorem dX14_takesUp_54 : decode cX14_takesUp 54 = .ok (.iastore, 1) := dk_79 (dk_at dksX14_takesUp_2 8 rfl rfl)
theorem dX14_takesUp_55 : decode cX14_takesUp 55 = .ok (.goto 14, 3) := dk_167 0 14 (dk_at dksX14_takesUp_2 9 rfl rfl)
theorem dX14_takesUp_58 : decode cX14_takesUp 58 = .ok (.aload_n 0, 1) := dk_42 (dk_at dksX14_takesUp_2 12 rfl rfl)
theorem dX14_takesUp_59 : decode cX14_takesUp 59 = .ok (.getfield 45, 3) := dk_180 0 45 (dk_at dksX14_takesUp_2 13 rfl rfl)
theorem dX14_takesUp_62 : decode cX14_takesUp 62 = .ok (.iload_n 1, 1) := dk_27 (dk_at dksX14_takesUp_2 16 rfl rfl)
theorem dX14_takesUp_63 : decode cX14_takesUp 63 = .ok (.aload_n 0, 1) := dk_42 (dk_at dksX14_takesUp_2 17 rfl rfl)
theorem dX14_takesUp_64 : decode cX14_takesUp 64 = .ok (.iload_n 1, 1) := dk_27 (dk_at dksX14_takesUp_2 18 rfl rfl)
theorem dX14_takesUp_65 : decode cX14_takesUp 65 = .ok (.invokevirtual 344, 3) := dk_182 1 88 (dk_at dksX14_takesUp_2 19 rfl rfl)
theorem dX14_takesUp_68 : decode cX14_takesUp 68 = .ok (.iastore, 1) := dk_79 (dk_at dksX14_takesUp_2 22 rfl rfl)
theorem dX14_takesUp_69 : decode cX14_takesUp 69 = .ok (.aload_n 0, 1) := dk_42 (dk_at dksX14_takesUp_2 23 rfl rfl)
theorem dX14_takesUp_70 : decode cX14_takesUp 70 = .ok (.getfield 39, 3) := dk_180 0 39 (dk_at dksX14_takesUp_3 0 rfl rfl)
theorem dX14_takesUp_73 : decode cX14_takesUp 73 = .ok (.iload_n 1, 1) := dk_27 (dk_at dksX14_takesUp_3 3 rfl rfl)
theorem dX14_takesUp_74 : decode cX14_takesUp 74 = .ok (.iaload, 1) := dk_46 (dk_at dksX14_takesUp_3 4 rfl rfl)
theorem dX14_takesUp_75 : decode cX14_takesUp 75 = .ok (.istore_n 2, 1) := dk_61 (dk_at dksX14_takesUp_3 5 rfl rfl)
theorem dX14_takesUp_76 : decode cX14_takesUp 76 = .ok (.aload_n 0, 1) := dk_42 (dk_at dksX14_takesUp_3 6 rfl rfl)
theorem dX14_takesUp_77 : decode cX14_takesUp 77 = .ok (.getfield 42, 3) := dk_180 0 42 (dk_at dksX14_takesUp_3 7 rfl rfl)
theorem dX14_takesUp_80 : decode cX14_takesUp 80 = .ok (.iload_n 1, 1) := dk_27 (dk_at dksX14_takesUp_3 10 rfl rfl)
theorem dX14_takesUp_81 : decode cX14_takesUp 81 = .ok (.aload_n 0, 1) := dk_42 (dk_at dksX14_takesUp_3 11 rfl rfl)
theorem dX14_takesUp_82 : decode cX14_takesUp 82 = .ok (.iload_n 1, 1) := dk_27 (dk_at dksX14_takesUp_3 12 rfl rfl)
theorem dX14_takesUp_83 : decode cX14_takesUp 83 = .ok (.aload_n 0, 1) := dk_42 (dk_at dksX14_takesUp_3 13 rfl rfl)
theorem dX14_takesUp_84 : decode cX14_takesUp 84 = .ok (.getfield 304, 3) := dk_180 1 48 (dk_at dksX14_takesUp_3 14 rfl rfl)
theorem dX14_takesUp_87 : decode cX14_takesUp 87 = .ok (.iload_n 2, 1) := dk_28 (dk_at dksX14_takesUp_3 17 rfl rfl)
theorem dX14_takesUp_88 : decode cX14_takesUp 88 = .ok (.invokevirtual 347, 3) := dk_182 1 91 (dk_at dksX14_takesUp_3 18 rfl rfl)
theorem dX14_takesUp_91 : decode cX14_takesUp 91 = .ok (.aload_n 0, 1) := dk_42 (dk_at dksX14_takesUp_3 21 rfl rfl)
theorem dX14_takesUp_92 : decode cX14_takesUp 92 = .ok (.getfield 48, 3) := dk_180 0 48 (dk_at dksX14_takesUp_4 0 rfl rfl)
theorem dX14_takesUp_95 : decode cX14_takesUp 95 = .ok (.iload_n 1, 1) := dk_27 (dk_at dksX14_takesUp_4 3 rfl rfl)
theorem dX14_takesUp_96 : decode cX14_takesUp 96 = .ok (.iaload, 1) := dk_46 (dk_at dksX14_takesUp_4 4 rfl rfl)
theorem dX14_takesUp_97 : decode cX14_takesUp 97 = .ok (.bipush 10, 2) := dk_16 10 (dk_at dksX14_takesUp_4 5 rfl rfl)
theorem dX14_takesUp_99 : decode cX14_takesUp 99 = .ok (.aload_n 0, 1) := dk_42 (dk_at dksX14_takesUp_4 7 rfl rfl)
theorem dX14_takesUp_100 : decode cX14_takesUp 100 = .ok (.iload_n 2, 1) := dk_28 (dk_at dksX14_takesUp_4 8 rfl rfl)
theorem dX14_takesUp_101 : decode cX14_takesUp 101 = .ok (.iconst 2, 1) := dk_5 (dk_at dksX14_takesUp_4 9 rfl rfl)
theorem dX14_takesUp_102 : decode cX14_takesUp 102 = .ok (.invokevirtual 294, 3) := dk_182 1 38 (dk_at dksX14_takesUp_4 10 rfl rfl)
theorem dX14_takesUp_105 : decode cX14_takesUp 105 = .ok (.imul, 1) := dk_104 (dk_at dksX14_takesUp_4 13 rfl rfl)
theorem dX14_takesUp_106 : decode cX14_takesUp 106 = .ok (.if_icmp .lt 7, 3) := dk_161 0 7 (dk_at dksX14_takesUp_4 14 rfl rfl)
theorem dX14_takesUp_109 : decode cX14_takesUp 109 = .ok (.iconst 2, 1) := dk_5 (dk_at dksX14_takesUp_4 17 rfl rfl)
theorem dX14_takesUp_110 : decode cX14_takesUp 110 = .ok (.goto 4, 3) := dk_167 0 4 (dk_at dksX14_takesUp_4 18 rfl rfl)
theorem dX14_takesUp_113 : decode cX14_takesUp 113 = .ok (.iconst 1, 1) := dk_4 (dk_at dksX14_takesUp_4 21 rfl rfl)
theorem dX14_takesUp_114 : decode cX14_takesUp 114 = .ok (.imul, 1) := dk_104 (dk_at dksX14_takesUp_4 22 rfl rfl)
theorem dX14_takesUp_115 : decode cX14_takesUp 115 = .ok (.iastore, 1) := dk_79 (dk_at dksX14_takesUp_4 23 rfl rfl)
theorem dX14_takesUp_116 : decode cX14_takesUp 116 = .ok (.return_, 1) := dk_177 (dk_at dksX14_takesUp_5 0 rfl rfl)
abbrev cX14_draws : ByteArray := prog_23_method_44_code
def yX14_draws : MethodName := ⟨RX14, "draws", "()I"⟩
def dkwX14_draws_2 : List UInt8 := [172]
abbrev dktX14_draws_2 : List UInt8 := dkwX14_draws_2 ++ []
def dkwX14_draws_1 : List UInt8 := [6, 46, 60, 42, 89, 180, 1, 78, 27, 100, 181, 1, 78, 42, 89, 180, 1, 69, 27, 96, 181, 1, 69, 27]
abbrev dktX14_draws_1 : List UInt8 := dkwX14_draws_1 ++ dktX14_draws_2
def dkwX14_draws_0 : List UInt8 := [42, 180, 1, 78, 42, 180, 0, 13, 6, 46, 162, 0, 10, 42, 180, 1, 78, 167, 0, 9, 42, 180, 0, 13]
abbrev dktX14_draws_0 : List UInt8 := dkwX14_draws_0 ++ dktX14_draws_1
theorem dksX14_draws_0 : cX14_draws.data.toList.drop 0 = dktX14_draws_0 := by decide +kernel
theorem dksX14_draws_1 : cX14_draws.data.toList.drop 24 = dktX14_draws_1 := dk_seg dksX14_draws_0 24 rfl rfl
theorem dksX14_draws_2 : cX14_draws.data.toList.drop 48 = dktX14_draws_2 := dk_seg dksX14_draws_1 24 rfl rfl
theorem dX14_draws_0 : decode cX14_draws 0 = .ok (.aload_n 0, 1) := dk_42 (dk_at dksX14_draws_0 0 rfl rfl)
theorem dX14_draws_1 : decode cX14_draws 1 = .ok (.getfield 334, 3) := dk_180 1 78 (dk_at dksX14_draws_0 1 rfl rfl)
theorem dX14_draws_4 : decode cX14_draws 4 = .ok (.aload_n 0, 1) := dk_42 (dk_at dksX14_draws_0 4 rfl rfl)
theorem dX14_draws_5 : decode cX14_draws 5 = .ok (.getfield 13, 3) := dk_180 0 13 (dk_at dksX14_draws_0 5 rfl rfl)
theorem dX14_draws_8 : decode cX14_draws 8 = .ok (.iconst 3, 1) := dk_6 (dk_at dksX14_draws_0 8 rfl rfl)
theorem dX14_draws_9 : decode cX14_draws 9 = .ok (.iaload, 1) := dk_46 (dk_at dksX14_draws_0 9 rfl rfl)
theorem dX14_draws_10 : decode cX14_draws 10 = .ok (.if_icmp .ge 10, 3) := dk_162 0 10 (dk_at dksX14_draws_0 10 rfl rfl)
theorem dX14_draws_13 : decode cX14_draws 13 = .ok (.aload_n 0, 1) := dk_42 (dk_at dksX14_draws_0 13 rfl rfl)
theorem dX14_draws_14 : decode cX14_draws 14 = .ok (.getfield 334, 3) := dk_180 1 78 (dk_at dksX14_draws_0 14 rfl rfl)
theorem dX14_draws_17 : decode cX14_draws 17 = .ok (.goto 9, 3) := dk_167 0 9 (dk_at dksX14_draws_0 17 rfl rfl)
theorem dX14_draws_20 : decode cX14_draws 20 = .ok (.aload_n 0, 1) := dk_42 (dk_at dksX14_draws_0 20 rfl rfl)
theorem dX14_draws_21 : decode cX14_draws 21 = .ok (.getfield 13, 3) := dk_180 0 13 (dk_at dksX14_draws_0 21 rfl rfl)
theorem dX14_draws_24 : decode cX14_draws 24 = .ok (.iconst 3, 1) := dk_6 (dk_at dksX14_draws_1 0 rfl rfl)
theorem dX14_draws_25 : decode cX14_draws 25 = .ok (.iaload, 1) := dk_46 (dk_at dksX14_draws_1 1 rfl rfl)
theorem dX14_draws_26 : decode cX14_draws 26 = .ok (.istore_n 1, 1) := dk_60 (dk_at dksX14_draws_1 2 rfl rfl)
theorem dX14_draws_27 : decode cX14_draws 27 = .ok (.aload_n 0, 1) := dk_42 (dk_at dksX14_draws_1 3 rfl rfl)
theorem dX14_draws_28 : decode cX14_draws 28 = .ok (.dup, 1) := dk_89 (dk_at dksX14_draws_1 4 rfl rfl)
theorem dX14_draws_29 : decode cX14_draws 29 = .ok (.getfield 334, 3) := dk_180 1 78 (dk_at dksX14_draws_1 5 rfl rfl)
theorem dX14_draws_32 : decode cX14_draws 32 = .ok (.iload_n 1, 1) := dk_27 (dk_at dksX14_draws_1 8 rfl rfl)
theorem dX14_draws_33 : decode cX14_draws 33 = .ok (.isub, 1) := dk_100 (dk_at dksX14_draws_1 9 rfl rfl)
theorem dX14_draws_34 : decode cX14_draws 34 = .ok (.putfield 334, 3) := dk_181 1 78 (dk_at dksX14_draws_1 10 rfl rfl)
theorem dX14_draws_37 : decode cX14_draws 37 = .ok (.aload_n 0, 1) := dk_42 (dk_at dksX14_draws_1 13 rfl rfl)
theorem dX14_draws_38 : decode cX14_draws 38 = .ok (.dup, 1) := dk_89 (dk_at dksX14_draws_1 14 rfl rfl)
theorem dX14_draws_39 : decode cX14_draws 39 = .ok (.getfield 325, 3) := dk_180 1 69 (dk_at dksX14_draws_1 15 rfl rfl)
theorem dX14_draws_42 : decode cX14_draws 42 = .ok (.iload_n 1, 1) := dk_27 (dk_at dksX14_draws_1 18 rfl rfl)
theorem dX14_draws_43 : decode cX14_draws 43 = .ok (.iadd, 1) := dk_96 (dk_at dksX14_draws_1 19 rfl rfl)
theorem dX14_draws_44 : decode cX14_draws 44 = .ok (.putfield 325, 3) := dk_181 1 69 (dk_at dksX14_draws_1 20 rfl rfl)
theorem dX14_draws_47 : decode cX14_draws 47 = .ok (.iload_n 1, 1) := dk_27 (dk_at dksX14_draws_1 23 rfl rfl)
theorem dX14_draws_48 : decode cX14_draws 48 = .ok (.ireturn, 1) := dk_172 (dk_at dksX14_draws_2 0 rfl rfl)
abbrev cX14_shift : ByteArray := prog_23_method_46_code
def yX14_shift : MethodName := ⟨RX14, "shift", "(I)I"⟩
def dkwX14_shift_2 : List UInt8 := [27, 104, 29, 96, 4, 96, 46, 79, 132, 3, 1, 167, 255, 219, 28, 172]
abbrev dktX14_shift_2 : List UInt8 := dkwX14_shift_2 ++ []
def dkwX14_shift_1 : List UInt8 := [180, 0, 54, 27, 46, 162, 0, 33, 42, 180, 0, 51, 16, 30, 27, 104, 29, 96, 42, 180, 0, 51, 16, 30]
abbrev dktX14_shift_1 : List UInt8 := dkwX14_shift_1 ++ dktX14_shift_2
def dkwX14_shift_0 : List UInt8 := [42, 180, 0, 51, 16, 30, 27, 104, 46, 61, 42, 180, 0, 54, 27, 92, 46, 4, 100, 79, 3, 62, 29, 42]
abbrev dktX14_shift_0 : List UInt8 := dkwX14_shift_0 ++ dktX14_shift_1
theorem dksX14_shift_0 : cX14_shift.data.toList.drop 0 = dktX14_shift_0 := by decide +kernel
theorem dksX14_shift_1 : cX14_shift.data.toList.drop 24 = dktX14_shift_1 := dk_seg dksX14_shift_0 24 rfl rfl
theorem dksX14_shift_2 : cX14_shift.data.toList.drop 48 = dktX14_shift_2 := dk_seg dksX14_shift_1 24 rfl rfl
theorem dX14_shift_0 : decode cX14_shift 0 = .ok (.aload_n 0, 1) := dk_42 (dk_at dksX14_shift_0 0 rfl rfl)
theorem dX14_shift_1 : decode cX14_shift 1 = .ok (.getfield 51, 3) := dk_180 0 51 (dk_at dksX14_shift_0 1 rfl rfl)
theorem dX14_shift_4 : decode cX14_shift 4 = .ok (.bipush 30, 2) := dk_16 30 (dk_at dksX14_shift_0 4 rfl rfl)
theorem dX14_shift_6 : decode cX14_shift 6 = .ok (.iload_n 1, 1) := dk_27 (dk_at dksX14_shift_0 6 rfl rfl)
theorem dX14_shift_7 : decode cX14_shift 7 = .ok (.imul, 1) := dk_104 (dk_at dksX14_shift_0 7 rfl rfl)
theorem dX14_shift_8 : decode cX14_shift 8 = .ok (.iaload, 1) := dk_46 (dk_at dksX14_shift_0 8 rfl rfl)
theorem dX14_shift_9 : decode cX14_shift 9 = .ok (.istore_n 2, 1) := dk_61 (dk_at dksX14_shift_0 9 rfl rfl)
theorem dX14_shift_10 : decode cX14_shift 10 = .ok (.aload_n 0, 1) := dk_42 (dk_at dksX14_shift_0 10 rfl rfl)
theorem dX14_shift_11 : decode cX14_shift 11 = .ok (.getfield 54, 3) := dk_180 0 54 (dk_at dksX14_shift_0 11 rfl rfl)
theorem dX14_shift_14 : decode cX14_shift 14 = .ok (.iload_n 1, 1) := dk_27 (dk_at dksX14_shift_0 14 rfl rfl)
theorem dX14_shift_15 : decode cX14_shift 15 = .ok (.dup2, 1) := dk_92 (dk_at dksX14_shift_0 15 rfl rfl)
theorem dX14_shift_16 : decode cX14_shift 16 = .ok (.iaload, 1) := dk_46 (dk_at dksX14_shift_0 16 rfl rfl)
theorem dX14_shift_17 : decode cX14_shift 17 = .ok (.iconst 1, 1) := dk_4 (dk_at dksX14_shift_0 17 rfl rfl)
theorem dX14_shift_18 : decode cX14_shift 18 = .ok (.isub, 1) := dk_100 (dk_at dksX14_shift_0 18 rfl rfl)
theorem dX14_shift_19 : decode cX14_shift 19 = .ok (.iastore, 1) := dk_79 (dk_at dksX14_shift_0 19 rfl rfl)
theorem dX14_shift_20 : decode cX14_shift 20 = .ok (.iconst 0, 1) := dk_3 (dk_at dksX14_shift_0 20 rfl rfl)
theorem dX14_shift_21 : decode cX14_shift 21 = .ok (.istore_n 3, 1) := dk_62 (dk_at dksX14_shift_0 21 rfl rfl)
theorem dX14_shift_22 : decode cX14_shift 22 = .ok (.iload_n 3, 1) := dk_29 (dk_at dksX14_shift_0 22 rfl rfl)
theorem dX14_shift_23 : decode cX14_shift 23 = .ok (.aload_n 0, 1) := dk_42 (dk_at dksX14_shift_0 23 rfl rfl)
theorem dX14_shift_24 : decode cX14_shift 24 = .ok (.getfield 54, 3) := dk_180 0 54 (dk_at dksX14_shift_1 0 rfl rfl)
theorem dX14_shift_27 : decode cX14_shift 27 = .ok (.iload_n 1, 1) := dk_27 (dk_at dksX14_shift_1 3 rfl rfl)
theorem dX14_shift_28 : decode cX14_shift 28 = .ok (.iaload, 1) := dk_46 (dk_at dksX14_shift_1 4 rfl rfl)
theorem dX14_shift_29 : decode cX14_shift 29 = .ok (.if_icmp .ge 33, 3) := dk_162 0 33 (dk_at dksX14_shift_1 5 rfl rfl)
theorem dX14_shift_32 : decode cX14_shift 32 = .ok (.aload_n 0, 1) := dk_42 (dk_at dksX14_shift_1 8 rfl rfl)
theorem dX14_shift_33 : decode cX14_shift 33 = .ok (.getfield 51, 3) := dk_180 0 51 (dk_at dksX14_shift_1 9 rfl rfl)
theorem dX14_shift_36 : decode cX14_shift 36 = .ok (.bipush 30, 2) := dk_16 30 (dk_at dksX14_shift_1 12 rfl rfl)
theorem dX14_shift_38 : decode cX14_shift 38 = .ok (.iload_n 1, 1) := dk_27 (dk_at dksX14_shift_1 14 rfl rfl)
theorem dX14_shift_39 : decode cX14_shift 39 = .ok (.imul, 1) := dk_104 (dk_at dksX14_shift_1 15 rfl rfl)
theorem dX14_shift_40 : decode cX14_shift 40 = .ok (.iload_n 3, 1) := dk_29 (dk_at dksX14_shift_1 16 rfl rfl)
theorem dX14_shift_41 : decode cX14_shift 41 = .ok (.iadd, 1) := dk_96 (dk_at dksX14_shift_1 17 rfl rfl)
theorem dX14_shift_42 : decode cX14_shift 42 = .ok (.aload_n 0, 1) := dk_42 (dk_at dksX14_shift_1 18 rfl rfl)
theorem dX14_shift_43 : decode cX14_shift 43 = .ok (.getfield 51, 3) := dk_180 0 51 (dk_at dksX14_shift_1 19 rfl rfl)
theorem dX14_shift_46 : decode cX14_shift 46 = .ok (.bipush 30, 2) := dk_16 30 (dk_at dksX14_shift_1 22 rfl rfl)
theorem dX14_shift_48 : decode cX14_shift 48 = .ok (.iload_n 1, 1) := dk_27 (dk_at dksX14_shift_2 0 rfl rfl)
theorem dX14_shift_49 : decode cX14_shift 49 = .ok (.imul, 1) := dk_104 (dk_at dksX14_shift_2 1 rfl rfl)
theorem dX14_shift_50 : decode cX14_shift 50 = .ok (.iload_n 3, 1) := dk_29 (dk_at dksX14_shift_2 2 rfl rfl)
theorem dX14_shift_51 : decode cX14_shift 51 = .ok (.iadd, 1) := dk_96 (dk_at dksX14_shift_2 3 rfl rfl)
theorem dX14_shift_52 : decode cX14_shift 52 = .ok (.iconst 1, 1) := dk_4 (dk_at dksX14_shift_2 4 rfl rfl)
theorem dX14_shift_53 : decode cX14_shift 53 = .ok (.iadd, 1) := dk_96 (dk_at dksX14_shift_2 5 rfl rfl)
theorem dX14_shift_54 : decode cX14_shift 54 = .ok (.iaload, 1) := dk_46 (dk_at dksX14_shift_2 6 rfl rfl)
theorem dX14_shift_55 : decode cX14_shift 55 = .ok (.iastore, 1) := dk_79 (dk_at dksX14_shift_2 7 rfl rfl)
theorem dX14_shift_56 : decode cX14_shift 56 = .ok (.iinc 3 1, 3) := dk_132 3 1 (dk_at dksX14_shift_2 8 rfl rfl)
theorem dX14_shift_59 : decode cX14_shift 59 = .ok (.goto (-37), 3) := dk_167 255 219 (dk_at dksX14_shift_2 11 rfl rfl)
theorem dX14_shift_62 : decode cX14_shift 62 = .ok (.iload_n 2, 1) := dk_28 (dk_at dksX14_shift_2 14 rfl rfl)
theorem dX14_shift_63 : decode cX14_shift 63 = .ok (.ireturn, 1) := dk_172 (dk_at dksX14_shift_2 15 rfl rfl)
abbrev cX14_timeOf : ByteArray := prog_23_method_43_code
def yX14_timeOf : MethodName := ⟨RX14, "timeOf", "(III)I"⟩
def dkwX14_timeOf_2 : List UInt8 := [182, 1, 75, 7, 108, 96, 172]
abbrev dktX14_timeOf_2 : List UInt8 := dkwX14_timeOf_2 ++ []
def dkwX14_timeOf_1 : List UInt8 := [154, 0, 12, 42, 180, 0, 13, 7, 46, 167, 0, 4, 3, 42, 29, 3, 182, 1, 38, 96, 42, 28]
abbrev dktX14_timeOf_1 : List UInt8 := dkwX14_timeOf_1 ++ dktX14_timeOf_2
def dkwX14_timeOf_0 : List UInt8 := [27, 28, 4, 100, 160, 0, 18, 42, 180, 0, 13, 16, 8, 46, 42, 29, 3, 182, 1, 38, 96, 172, 27]
abbrev dktX14_timeOf_0 : List UInt8 := dkwX14_timeOf_0 ++ dktX14_timeOf_1
theorem dksX14_timeOf_0 : cX14_timeOf.data.toList.drop 0 = dktX14_timeOf_0 := by decide +kernel
theorem dksX14_timeOf_1 : cX14_timeOf.data.toList.drop 23 = dktX14_timeOf_1 := dk_seg dksX14_timeOf_0 23 rfl rfl
theorem dksX14_timeOf_2 : cX14_timeOf.data.toList.drop 45 = dktX14_timeOf_2 := dk_seg dksX14_timeOf_1 22 rfl rfl
theorem dX14_timeOf_0 : decode cX14_timeOf 0 = .ok (.iload_n 1, 1) := dk_27 (dk_at dksX14_timeOf_0 0 rfl rfl)
theorem dX14_timeOf_1 : decode cX14_timeOf 1 = .ok (.iload_n 2, 1) := dk_28 (dk_at dksX14_timeOf_0 1 rfl rfl)
theorem dX14_timeOf_2 : decode cX14_timeOf 2 = .ok (.iconst 1, 1) := dk_4 (dk_at dksX14_timeOf_0 2 rfl rfl)
theorem dX14_timeOf_3 : decode cX14_timeOf 3 = .ok (.isub, 1) := dk_100 (dk_at dksX14_timeOf_0 3 rfl rfl)
theorem dX14_timeOf_4 : decode cX14_timeOf 4 = .ok (.if_icmp .ne 18, 3) := dk_160 0 18 (dk_at dksX14_timeOf_0 4 rfl rfl)
theorem dX14_timeOf_7 : decode cX14_timeOf 7 = .ok (.aload_n 0, 1) := dk_42 (dk_at dksX14_timeOf_0 7 rfl rfl)
theorem dX14_timeOf_8 : decode cX14_timeOf 8 = .ok (.getfield 13, 3) := dk_180 0 13 (dk_at dksX14_timeOf_0 8 rfl rfl)
theorem dX14_timeOf_11 : decode cX14_timeOf 11 = .ok (.bipush 8, 2) := dk_16 8 (dk_at dksX14_timeOf_0 11 rfl rfl)
theorem dX14_timeOf_13 : decode cX14_timeOf 13 = .ok (.iaload, 1) := dk_46 (dk_at dksX14_timeOf_0 13 rfl rfl)
theorem dX14_timeOf_14 : decode cX14_timeOf 14 = .ok (.aload_n 0, 1) := dk_42 (dk_at dksX14_timeOf_0 14 rfl rfl)
theorem dX14_timeOf_15 : decode cX14_timeOf 15 = .ok (.iload_n 3, 1) := dk_29 (dk_at dksX14_timeOf_0 15 rfl rfl)
theorem dX14_timeOf_16 : decode cX14_timeOf 16 = .ok (.iconst 0, 1) := dk_3 (dk_at dksX14_timeOf_0 16 rfl rfl)
theorem dX14_timeOf_17 : decode cX14_timeOf 17 = .ok (.invokevirtual 294, 3) := dk_182 1 38 (dk_at dksX14_timeOf_0 17 rfl rfl)
theorem dX14_timeOf_20 : decode cX14_timeOf 20 = .ok (.iadd, 1) := dk_96 (dk_at dksX14_timeOf_0 20 rfl rfl)
theorem dX14_timeOf_21 : decode cX14_timeOf 21 = .ok (.ireturn, 1) := dk_172 (dk_at dksX14_timeOf_0 21 rfl rfl)
theorem dX14_timeOf_22 : decode cX14_timeOf 22 = .ok (.iload_n 1, 1) := dk_27 (dk_at dksX14_timeOf_0 22 rfl rfl)
theorem dX14_timeOf_23 : decode cX14_timeOf 23 = .ok (.ifCond .ne 12, 3) := dk_154 0 12 (dk_at dksX14_timeOf_1 0 rfl rfl)
theorem dX14_timeOf_26 : decode cX14_timeOf 26 = .ok (.aload_n 0, 1) := dk_42 (dk_at dksX14_timeOf_1 3 rfl rfl)
theorem dX14_timeOf_27 : decode cX14_timeOf 27 = .ok (.getfield 13, 3) := dk_180 0 13 (dk_at dksX14_timeOf_1 4 rfl rfl)
theorem dX14_timeOf_30 : decode cX14_timeOf 30 = .ok (.iconst 4, 1) := dk_7 (dk_at dksX14_timeOf_1 7 rfl rfl)
theorem dX14_timeOf_31 : decode cX14_timeOf 31 = .ok (.iaload, 1) := dk_46 (dk_at dksX14_timeOf_1 8 rfl rfl)
theorem dX14_timeOf_32 : decode cX14_timeOf 32 = .ok (.goto 4, 3) := dk_167 0 4 (dk_at dksX14_timeOf_1 9 rfl rfl)
theorem dX14_timeOf_35 : decode cX14_timeOf 35 = .ok (.iconst 0, 1) := dk_3 (dk_at dksX14_timeOf_1 12 rfl rfl)
theorem dX14_timeOf_36 : decode cX14_timeOf 36 = .ok (.aload_n 0, 1) := dk_42 (dk_at dksX14_timeOf_1 13 rfl rfl)
theorem dX14_timeOf_37 : decode cX14_timeOf 37 = .ok (.iload_n 3, 1) := dk_29 (dk_at dksX14_timeOf_1 14 rfl rfl)
theorem dX14_timeOf_38 : decode cX14_timeOf 38 = .ok (.iconst 0, 1) := dk_3 (dk_at dksX14_timeOf_1 15 rfl rfl)
theorem dX14_timeOf_39 : decode cX14_timeOf 39 = .ok (.invokevirtual 294, 3) := dk_182 1 38 (dk_at dksX14_timeOf_1 16 rfl rfl)
theorem dX14_timeOf_42 : decode cX14_timeOf 42 = .ok (.iadd, 1) := dk_96 (dk_at dksX14_timeOf_1 19 rfl rfl)
theorem dX14_timeOf_43 : decode cX14_timeOf 43 = .ok (.aload_n 0, 1) := dk_42 (dk_at dksX14_timeOf_1 20 rfl rfl)
theorem dX14_timeOf_44 : decode cX14_timeOf 44 = .ok (.iload_n 2, 1) := dk_28 (dk_at dksX14_timeOf_1 21 rfl rfl)
theorem dX14_timeOf_45 : decode cX14_timeOf 45 = .ok (.invokevirtual 331, 3) := dk_182 1 75 (dk_at dksX14_timeOf_2 0 rfl rfl)
theorem dX14_timeOf_48 : decode cX14_timeOf 48 = .ok (.iconst 4, 1) := dk_7 (dk_at dksX14_timeOf_2 3 rfl rfl)
theorem dX14_timeOf_49 : decode cX14_timeOf 49 = .ok (.idiv, 1) := dk_108 (dk_at dksX14_timeOf_2 4 rfl rfl)
theorem dX14_timeOf_50 : decode cX14_timeOf 50 = .ok (.iadd, 1) := dk_96 (dk_at dksX14_timeOf_2 5 rfl rfl)
theorem dX14_timeOf_51 : decode cX14_timeOf 51 = .ok (.ireturn, 1) := dk_172 (dk_at dksX14_timeOf_2 6 rfl rfl)
abbrev cX14_yards : ByteArray := prog_23_method_42_code
def yX14_yards : MethodName := ⟨RX14, "yards", "(I)I"⟩
def dkwX14_yards_0 : List UInt8 := [42, 180, 0, 13, 4, 46, 27, 4, 100, 184, 1, 72, 172]
abbrev dktX14_yards_0 : List UInt8 := dkwX14_yards_0 ++ []
theorem dksX14_yards_0 : cX14_yards.data.toList.drop 0 = dktX14_yards_0 := by decide +kernel
theorem dX14_yards_0 : decode cX14_yards 0 = .ok (.aload_n 0, 1) := dk_42 (dk_at dksX14_yards_0 0 rfl rfl)
theorem dX14_yards_1 : decode cX14_yards 1 = .ok (.getfield 13, 3) := dk_180 0 13 (dk_at dksX14_yards_0 1 rfl rfl)
theorem dX14_yards_4 : decode cX14_yards 4 = .ok (.iconst 1, 1) := dk_4 (dk_at dksX14_yards_0 4 rfl rfl)
theorem dX14_yards_5 : decode cX14_yards 5 = .ok (.iaload, 1) := dk_46 (dk_at dksX14_yards_0 5 rfl rfl)
theorem dX14_yards_6 : decode cX14_yards 6 = .ok (.iload_n 1, 1) := dk_27 (dk_at dksX14_yards_0 6 rfl rfl)
theorem dX14_yards_7 : decode cX14_yards 7 = .ok (.iconst 1, 1) := dk_4 (dk_at dksX14_yards_0 7 rfl rfl)
theorem dX14_yards_8 : decode cX14_yards 8 = .ok (.isub, 1) := dk_100 (dk_at dksX14_yards_0 8 rfl rfl)
theorem dX14_yards_9 : decode cX14_yards 9 = .ok (.invokestatic 328, 3) := dk_184 1 72 (dk_at dksX14_yards_0 9 rfl rfl)
theorem dX14_yards_12 : decode cX14_yards 12 = .ok (.ireturn, 1) := dk_172 (dk_at dksX14_yards_0 12 rfl rfl)
abbrev cX14_up : ByteArray := prog_23_method_10_code
def yX14_up : MethodName := ⟨RX14, "up", "(II)I"⟩
def dkwX14_up_0 : List UInt8 := [26, 27, 96, 4, 100, 27, 108, 172]
abbrev dktX14_up_0 : List UInt8 := dkwX14_up_0 ++ []
theorem dksX14_up_0 : cX14_up.data.toList.drop 0 = dktX14_up_0 := by decide +kernel
theorem dX14_up_0 : decode cX14_up 0 = .ok (.iload_n 0, 1) := dk_26 (dk_at dksX14_up_0 0 rfl rfl)
theorem dX14_up_1 : decode cX14_up 1 = .ok (.iload_n 1, 1) := dk_27 (dk_at dksX14_up_0 1 rfl rfl)
theorem dX14_up_2 : decode cX14_up 2 = .ok (.iadd, 1) := dk_96 (dk_at dksX14_up_0 2 rfl rfl)
theorem dX14_up_3 : decode cX14_up 3 = .ok (.iconst 1, 1) := dk_4 (dk_at dksX14_up_0 3 rfl rfl)
theorem dX14_up_4 : decode cX14_up 4 = .ok (.isub, 1) := dk_100 (dk_at dksX14_up_0 4 rfl rfl)
theorem dX14_up_5 : decode cX14_up 5 = .ok (.iload_n 1, 1) := dk_27 (dk_at dksX14_up_0 5 rfl rfl)
theorem dX14_up_6 : decode cX14_up 6 = .ok (.idiv, 1) := dk_108 (dk_at dksX14_up_0 6 rfl rfl)
theorem dX14_up_7 : decode cX14_up 7 = .ok (.ireturn, 1) := dk_172 (dk_at dksX14_up_0 7 rfl rfl)
abbrev cX14_runTick : ByteArray := prog_23_method_51_code
def yX14_runTick : MethodName := ⟨RX14, "runTick", "()V"⟩
def dkwX14_runTick_8 : List UInt8 := [27, 42, 180, 0, 13, 7, 46, 79, 132, 1, 1, 167, 255, 61, 177]
abbrev dktX14_runTick_8 : List UInt8 := dkwX14_runTick_8 ++ []
def dkwX14_runTick_7 : List UInt8 := [167, 0, 32, 42, 180, 0, 45, 27, 42, 182, 1, 85, 79, 42, 180, 0, 63, 27, 4, 79, 42, 180, 0, 42]
abbrev dktX14_runTick_7 : List UInt8 := dkwX14_runTick_7 ++ dktX14_runTick_8
def dkwX14_runTick_6 : List UInt8 := [180, 0, 63, 27, 46, 154, 0, 49, 42, 180, 1, 78, 153, 0, 42, 42, 182, 1, 101, 153, 0, 6]
abbrev dktX14_runTick_6 : List UInt8 := dkwX14_runTick_6 ++ dktX14_runTick_7
def dkwX14_runTick_5 : List UInt8 := [180, 0, 63, 27, 6, 79, 42, 180, 0, 42, 27, 28, 79, 167, 0, 10, 42, 180, 0, 63, 27, 3, 79, 42]
abbrev dktX14_runTick_5 : List UInt8 := dkwX14_runTick_5 ++ dktX14_runTick_6
def dkwX14_runTick_4 : List UInt8 := [160, 0, 39, 42, 89, 180, 1, 60, 42, 180, 0, 45, 27, 46, 4, 96, 5, 108, 96, 181, 1, 60, 42]
abbrev dktX14_runTick_4 : List UInt8 := dkwX14_runTick_4 ++ dktX14_runTick_5
def dkwX14_runTick_3 : List UInt8 := [180, 0, 63, 27, 5, 79, 42, 180, 0, 42, 27, 28, 79, 167, 0, 56, 42, 180, 0, 63, 27, 46, 5]
abbrev dktX14_runTick_3 : List UInt8 := dkwX14_runTick_3 ++ dktX14_runTick_4
def dkwX14_runTick_2 : List UInt8 := [100, 79, 42, 180, 0, 42, 27, 46, 154, 0, 83, 42, 180, 0, 63, 27, 46, 4, 160, 0, 20, 42]
abbrev dktX14_runTick_2 : List UInt8 := dkwX14_runTick_2 ++ dktX14_runTick_3
def dkwX14_runTick_1 : List UInt8 := [182, 1, 38, 184, 1, 72, 61, 42, 180, 0, 42, 27, 46, 158, 0, 102, 42, 180, 0, 42, 27, 92, 46, 4]
abbrev dktX14_runTick_1 : List UInt8 := dkwX14_runTick_1 ++ dktX14_runTick_2
def dkwX14_runTick_0 : List UInt8 := [3, 60, 27, 42, 180, 1, 48, 162, 0, 193, 42, 180, 0, 13, 4, 46, 42, 42, 180, 0, 39, 27, 46, 4]
abbrev dktX14_runTick_0 : List UInt8 := dkwX14_runTick_0 ++ dktX14_runTick_1
theorem dksX14_runTick_0 : cX14_runTick.data.toList.drop 0 = dktX14_runTick_0 := by decide +kernel
theorem dksX14_runTick_1 : cX14_runTick.data.toList.drop 24 = dktX14_runTick_1 := dk_seg dksX14_runTick_0 24 rfl rfl
theorem dksX14_runTick_2 : cX14_runTick.data.toList.drop 48 = dktX14_runTick_2 := dk_seg dksX14_runTick_1 24 rfl rfl
theorem dksX14_runTick_3 : cX14_runTick.data.toList.drop 70 = dktX14_runTick_3 := dk_seg dksX14_runTick_2 22 rfl rfl
theorem dksX14_runTick_4 : cX14_runTick.data.toList.drop 93 = dktX14_runTick_4 := dk_seg dksX14_runTick_3 23 rfl rfl
theorem dksX14_runTick_5 : cX14_runTick.data.toList.drop 116 = dktX14_runTick_5 := dk_seg dksX14_runTick_4 23 rfl rfl
theorem dksX14_runTick_6 : cX14_runTick.data.toList.drop 140 = dktX14_runTick_6 := dk_seg dksX14_runTick_5 24 rfl rfl
theorem dksX14_runTick_7 : cX14_runTick.data.toList.drop 162 = dktX14_runTick_7 := dk_seg dksX14_runTick_6 22 rfl rfl
theorem dksX14_runTick_8 : cX14_runTick.data.toList.drop 186 = dktX14_runTick_8 := dk_seg dksX14_runTick_7 24 rfl rfl
theorem dX14_runTick_0 : decode cX14_runTick 0 = .ok (.iconst 0, 1) := dk_3 (dk_at dksX14_runTick_0 0 rfl rfl)
theorem dX14_runTick_1 : decode cX14_runTick 1 = .ok (.istore_n 1, 1) := dk_60 (dk_at dksX14_runTick_0 1 rfl rfl)
theorem dX14_runTick_2 : decode cX14_runTick 2 = .ok (.iload_n 1, 1) := dk_27 (dk_at dksX14_runTick_0 2 rfl rfl)
theorem dX14_runTick_3 : decode cX14_runTick 3 = .ok (.aload_n 0, 1) := dk_42 (dk_at dksX14_runTick_0 3 rfl rfl)
theorem dX14_runTick_4 : decode cX14_runTick 4 = .ok (.getfield 304, 3) := dk_180 1 48 (dk_at dksX14_runTick_0 4 rfl rfl)
theorem dX14_runTick_7 : decode cX14_runTick 7 = .ok (.if_icmp .ge 193, 3) := dk_162 0 193 (dk_at dksX14_runTick_0 7 rfl rfl)
theorem dX14_runTick_10 : decode cX14_runTick 10 = .ok (.aload_n 0, 1) := dk_42 (dk_at dksX14_runTick_0 10 rfl rfl)
theorem dX14_runTick_11 : decode cX14_runTick 11 = .ok (.getfield 13, 3) := dk_180 0 13 (dk_at dksX14_runTick_0 11 rfl rfl)
theorem dX14_runTick_14 : decode cX14_runTick 14 = .ok (.iconst 1, 1) := dk_4 (dk_at dksX14_runTick_0 14 rfl rfl)
theorem dX14_runTick_15 : decode cX14_runTick 15 = .ok (.iaload, 1) := dk_46 (dk_at dksX14_runTick_0 15 rfl rfl)
theorem dX14_runTick_16 : decode cX14_runTick 16 = .ok (.aload_n 0, 1) := dk_42 (dk_at dksX14_runTick_0 16 rfl rfl)
theorem dX14_runTick_17 : decode cX14_runTick 17 = .ok (.aload_n 0, 1) := dk_42 (dk_at dksX14_runTick_0 17 rfl rfl)
theorem dX14_runTick_18 : decode cX14_runTick 18 = .ok (.getfield 39, 3) := dk_180 0 39 (dk_at dksX14_runTick_0 18 rfl rfl)
theorem dX14_runTick_21 : decode cX14_runTick 21 = .ok (.iload_n 1, 1) := dk_27 (dk_at dksX14_runTick_0 21 rfl rfl)
theorem dX14_runTick_22 : decode cX14_runTick 22 = .ok (.iaload, 1) := dk_46 (dk_at dksX14_runTick_0 22 rfl rfl)
theorem dX14_runTick_23 : decode cX14_runTick 23 = .ok (.iconst 1, 1) := dk_4 (dk_at dksX14_runTick_0 23 rfl rfl)
theorem dX14_runTick_24 : decode cX14_runTick 24 = .ok (.invokevirtual 294, 3) := dk_182 1 38 (dk_at dksX14_runTick_1 0 rfl rfl)
theorem dX14_runTick_27 : decode cX14_runTick 27 = .ok (.invokestatic 328, 3) := dk_184 1 72 (dk_at dksX14_runTick_1 3 rfl rfl)
theorem dX14_runTick_30 : decode cX14_runTick 30 = .ok (.istore_n 2, 1) := dk_61 (dk_at dksX14_runTick_1 6 rfl rfl)
theorem dX14_runTick_31 : decode cX14_runTick 31 = .ok (.aload_n 0, 1) := dk_42 (dk_at dksX14_runTick_1 7 rfl rfl)
theorem dX14_runTick_32 : decode cX14_runTick 32 = .ok (.getfield 42, 3) := dk_180 0 42 (dk_at dksX14_runTick_1 8 rfl rfl)
theorem dX14_runTick_35 : decode cX14_runTick 35 = .ok (.iload_n 1, 1) := dk_27 (dk_at dksX14_runTick_1 11 rfl rfl)
theorem dX14_runTick_36 : decode cX14_runTick 36 = .ok (.iaload, 1) := dk_46 (dk_at dksX14_runTick_1 12 rfl rfl)
theorem dX14_runTick_37 : decode cX14_runTick 37 = .ok (.ifCond .le 102, 3) := dk_158 0 102 (dk_at dksX14_runTick_1 13 rfl rfl)
theorem dX14_runTick_40 : decode cX14_runTick 40 = .ok (.aload_n 0, 1) := dk_42 (dk_at dksX14_runTick_1 16 rfl rfl)
theorem dX14_runTick_41 : decode cX14_runTick 41 = .ok (.getfield 42, 3) := dk_180 0 42 (dk_at dksX14_runTick_1 17 rfl rfl)
theorem dX14_runTick_44 : decode cX14_runTick 44 = .ok (.iload_n 1, 1) := dk_27 (dk_at dksX14_runTick_1 20 rfl rfl)
theorem dX14_runTick_45 : decode cX14_runTick 45 = .ok (.dup2, 1) := dk_92 (dk_at dksX14_runTick_1 21 rfl rfl)
theorem dX14_runTick_46 : decode cX14_runTick 46 = .ok (.iaload, 1) := dk_46 (dk_at dksX14_runTick_1 22 rfl rfl)
theorem dX14_runTick_47 : decode cX14_runTick 47 = .ok (.iconst 1, 1) := dk_4 (dk_at dksX14_runTick_1 23 rfl rfl)
theorem dX14_runTick_48 : decode cX14_runTick 48 = .ok (.isub, 1) := dk_100 (dk_at dksX14_runTick_2 0 rfl rfl)
theorem dX14_runTick_49 : decode cX14_runTick 49 = .ok (.iastore, 1) := dk_79 (dk_at dksX14_runTick_2 1 rfl rfl)
theorem dX14_runTick_50 : decode cX14_runTick 50 = .ok (.aload_n 0, 1) := dk_42 (dk_at dksX14_runTick_2 2 rfl rfl)
theorem dX14_runTick_51 : decode cX14_runTick 51 = .ok (.getfield 42, 3) := dk_180 0 42 (dk_at dksX14_runTick_2 3 rfl rfl)
theorem dX14_runTick_54 : decode cX14_runTick 54 = .ok (.iload_n 1, 1) := dk_27 (dk_at dksX14_runTick_2 6 rfl rfl)
theorem dX14_runTick_55 : decode cX14_runTick 55 = .ok (.iaload, 1) := dk_46 (dk_at dksX14_runTick_2 7 rfl rfl)
theorem dX14_runTick_56 : decode cX14_runTick 56 = .ok (.ifCond .ne 83, 3) := dk_154 0 83 (dk_at dksX14_runTick_2 8 rfl rfl)
theorem dX14_runTick_59 : decode cX14_runTick 59 = .ok (.aload_n 0, 1) := dk_42 (dk_at dksX14_runTick_2 11 rfl rfl)
theorem dX14_runTick_60 : decode cX14_runTick 60 = .ok (.getfield 63, 3) := dk_180 0 63 (dk_at dksX14_runTick_2 12 rfl rfl)
theorem dX14_runTick_63 : decode cX14_runTick 63 = .ok (.iload_n 1, 1) := dk_27 (dk_at dksX14_runTick_2 15 rfl rfl)
theorem dX14_runTick_64 : decode cX14_runTick 64 = .ok (.iaload, 1) := dk_46 (dk_at dksX14_runTick_2 16 rfl rfl)
theorem dX14_runTick_65 : decode cX14_runTick 65 = .ok (.iconst 1, 1) := dk_4 (dk_at dksX14_runTick_2 17 rfl rfl)
theorem dX14_runTick_66 : decode cX14_runTick 66 = .ok (.if_icmp .ne 20, 3) := dk_160 0 20 (dk_at dksX14_runTick_2 18 rfl rfl)
theorem dX14_runTick_69 : decode cX14_runTick 69 = .ok (.aload_n 0, 1) := dk_42 (dk_at dksX14_runTick_2 21 rfl rfl)
theorem dX14_runTick_70 : decode cX14_runTick 70 = .ok (.getfield 63, 3) := dk_180 0 63 (dk_at dksX14_runTick_3 0 rfl rfl)
theorem dX14_runTick_73 : decode cX14_runTick 73 = .ok (.iload_n 1, 1) := dk_27 (dk_at dksX14_runTick_3 3 rfl rfl)
theorem dX14_runTick_74 : decode cX14_runTick 74 = .ok (.iconst 2, 1) := dk_5 (dk_at dksX14_runTick_3 4 rfl rfl)
theorem dX14_runTick_75 : decode cX14_runTick 75 = .ok (.iastore, 1) := dk_79 (dk_at dksX14_runTick_3 5 rfl rfl)
theorem dX14_runTick_76 : decode cX14_runTick 76 = .ok (.aload_n 0, 1) := dk_42 (dk_at dksX14_runTick_3 6 rfl rfl)
theorem dX14_runTick_77 : decode cX14_runTick 77 = .ok (.getfield 42, 3) := dk_180 0 42 (dk_at dksX14_runTick_3 7 rfl rfl)
theorem dX14_runTick_80 : decode cX14_runTick 80 = .ok (.iload_n 1, 1) := dk_27 (dk_at dksX14_runTick_3 10 rfl rfl)
theorem dX14_runTick_81 : decode cX14_runTick 81 = .ok (.iload_n 2, 1) := dk_28 (dk_at dksX14_runTick_3 11 rfl rfl)
theorem dX14_runTick_82 : decode cX14_runTick 82 = .ok (.iastore, 1) := dk_79 (dk_at dksX14_runTick_3 12 rfl rfl)
theorem dX14_runTick_83 : decode cX14_runTick 83 = .ok (.goto 56, 3) := dk_167 0 56 (dk_at dksX14_runTick_3 13 rfl rfl)
theorem dX14_runTick_86 : decode cX14_runTick 86 = .ok (.aload_n 0, 1) := dk_42 (dk_at dksX14_runTick_3 16 rfl rfl)
theorem dX14_runTick_87 : decode cX14_runTick 87 = .ok (.getfield 63, 3) := dk_180 0 63 (dk_at dksX14_runTick_3 17 rfl rfl)
theorem dX14_runTick_90 : decode cX14_runTick 90 = .ok (.iload_n 1, 1) := dk_27 (dk_at dksX14_runTick_3 20 rfl rfl)
theorem dX14_runTick_91 : decode cX14_runTick 91 = .ok (.iaload, 1) := dk_46 (dk_at dksX14_runTick_3 21 rfl rfl)
theorem dX14_runTick_92 : decode cX14_runTick 92 = .ok (.iconst 2, 1) := dk_5 (dk_at dksX14_runTick_3 22 rfl rfl)
theorem dX14_runTick_93 : decode cX14_runTick 93 = .ok (.if_icmp .ne 39, 3) := dk_160 0 39 (dk_at dksX14_runTick_4 0 rfl rfl)
theorem dX14_runTick_96 : decode cX14_runTick 96 = .ok (.aload_n 0, 1) := dk_42 (dk_at dksX14_runTick_4 3 rfl rfl)
theorem dX14_runTick_97 : decode cX14_runTick 97 = .ok (.dup, 1) := dk_89 (dk_at dksX14_runTick_4 4 rfl rfl)
theorem dX14_runTick_98 : decode cX14_runTick 98 = .ok (.getfield 316, 3) := dk_180 1 60 (dk_at dksX14_runTick_4 5 rfl rfl)
theorem dX14_runTick_101 : decode cX14_runTick 101 = .ok (.aload_n 0, 1) := dk_42 (dk_at dksX14_runTick_4 8 rfl rfl)
theorem dX14_runTick_102 : decode cX14_runTick 102 = .ok (.getfield 45, 3) := dk_180 0 45 (dk_at dksX14_runTick_4 9 rfl rfl)
theorem dX14_runTick_105 : decode cX14_runTick 105 = .ok (.iload_n 1, 1) := dk_27 (dk_at dksX14_runTick_4 12 rfl rfl)
theorem dX14_runTick_106 : decode cX14_runTick 106 = .ok (.iaload, 1) := dk_46 (dk_at dksX14_runTick_4 13 rfl rfl)
theorem dX14_runTick_107 : decode cX14_runTick 107 = .ok (.iconst 1, 1) := dk_4 (dk_at dksX14_runTick_4 14 rfl rfl)
theorem dX14_runTick_108 : decode cX14_runTick 108 = .ok (.iadd, 1) := dk_96 (dk_at dksX14_runTick_4 15 rfl rfl)
theorem dX14_runTick_109 : decode cX14_runTick 109 = .ok (.iconst 2, 1) := dk_5 (dk_at dksX14_runTick_4 16 rfl rfl)
theorem dX14_runTick_110 : decode cX14_runTick 110 = .ok (.idiv, 1) := dk_108 (dk_at dksX14_runTick_4 17 rfl rfl)
theorem dX14_runTick_111 : decode cX14_runTick 111 = .ok (.iadd, 1) := dk_96 (dk_at dksX14_runTick_4 18 rfl rfl)
theorem dX14_runTick_112 : decode cX14_runTick 112 = .ok (.putfield 316, 3) := dk_181 1 60 (dk_at dksX14_runTick_4 19 rfl rfl)
theorem dX14_runTick_115 : decode cX14_runTick 115 = .ok (.aload_n 0, 1) := dk_42 (dk_at dksX14_runTick_4 22 rfl rfl)
theorem dX14_runTick_116 : decode cX14_runTick 116 = .ok (.getfield 63, 3) := dk_180 0 63 (dk_at dksX14_runTick_5 0 rfl rfl)
theorem dX14_runTick_119 : decode cX14_runTick 119 = .ok (.iload_n 1, 1) := dk_27 (dk_at dksX14_runTick_5 3 rfl rfl)
theorem dX14_runTick_120 : decode cX14_runTick 120 = .ok (.iconst 3, 1) := dk_6 (dk_at dksX14_runTick_5 4 rfl rfl)
theorem dX14_runTick_121 : decode cX14_runTick 121 = .ok (.iastore, 1) := dk_79 (dk_at dksX14_runTick_5 5 rfl rfl)
theorem dX14_runTick_122 : decode cX14_runTick 122 = .ok (.aload_n 0, 1) := dk_42 (dk_at dksX14_runTick_5 6 rfl rfl)
theorem dX14_runTick_123 : decode cX14_runTick 123 = .ok (.getfield 42, 3) := dk_180 0 42 (dk_at dksX14_runTick_5 7 rfl rfl)
theorem dX14_runTick_126 : decode cX14_runTick 126 = .ok (.iload_n 1, 1) := dk_27 (dk_at dksX14_runTick_5 10 rfl rfl)
theorem dX14_runTick_127 : decode cX14_runTick 127 = .ok (.iload_n 2, 1) := dk_28 (dk_at dksX14_runTick_5 11 rfl rfl)
theorem dX14_runTick_128 : decode cX14_runTick 128 = .ok (.iastore, 1) := dk_79 (dk_at dksX14_runTick_5 12 rfl rfl)
theorem dX14_runTick_129 : decode cX14_runTick 129 = .ok (.goto 10, 3) := dk_167 0 10 (dk_at dksX14_runTick_5 13 rfl rfl)
theorem dX14_runTick_132 : decode cX14_runTick 132 = .ok (.aload_n 0, 1) := dk_42 (dk_at dksX14_runTick_5 16 rfl rfl)
theorem dX14_runTick_133 : decode cX14_runTick 133 = .ok (.getfield 63, 3) := dk_180 0 63 (dk_at dksX14_runTick_5 17 rfl rfl)
theorem dX14_runTick_136 : decode cX14_runTick 136 = .ok (.iload_n 1, 1) := dk_27 (dk_at dksX14_runTick_5 20 rfl rfl)
theorem dX14_runTick_137 : decode cX14_runTick 137 = .ok (.iconst 0, 1) := dk_3 (dk_at dksX14_runTick_5 21 rfl rfl)
theorem dX14_runTick_138 : decode cX14_runTick 138 = .ok (.iastore, 1) := dk_79 (dk_at dksX14_runTick_5 22 rfl rfl)
theorem dX14_runTick_139 : decode cX14_runTick 139 = .ok (.aload_n 0, 1) := dk_42 (dk_at dksX14_runTick_5 23 rfl rfl)
theorem dX14_runTick_140 : decode cX14_runTick 140 = .ok (.getfield 63, 3) := dk_180 0 63 (dk_at dksX14_runTick_6 0 rfl rfl)
theorem dX14_runTick_143 : decode cX14_runTick 143 = .ok (.iload_n 1, 1) := dk_27 (dk_at dksX14_runTick_6 3 rfl rfl)
theorem dX14_runTick_144 : decode cX14_runTick 144 = .ok (.iaload, 1) := dk_46 (dk_at dksX14_runTick_6 4 rfl rfl)
theorem dX14_runTick_145 : decode cX14_runTick 145 = .ok (.ifCond .ne 49, 3) := dk_154 0 49 (dk_at dksX14_runTick_6 5 rfl rfl)
theorem dX14_runTick_148 : decode cX14_runTick 148 = .ok (.aload_n 0, 1) := dk_42 (dk_at dksX14_runTick_6 8 rfl rfl)
theorem dX14_runTick_149 : decode cX14_runTick 149 = .ok (.getfield 334, 3) := dk_180 1 78 (dk_at dksX14_runTick_6 9 rfl rfl)
theorem dX14_runTick_152 : decode cX14_runTick 152 = .ok (.ifCond .eq 42, 3) := dk_153 0 42 (dk_at dksX14_runTick_6 12 rfl rfl)
theorem dX14_runTick_155 : decode cX14_runTick 155 = .ok (.aload_n 0, 1) := dk_42 (dk_at dksX14_runTick_6 15 rfl rfl)
theorem dX14_runTick_156 : decode cX14_runTick 156 = .ok (.invokevirtual 357, 3) := dk_182 1 101 (dk_at dksX14_runTick_6 16 rfl rfl)
theorem dX14_runTick_159 : decode cX14_runTick 159 = .ok (.ifCond .eq 6, 3) := dk_153 0 6 (dk_at dksX14_runTick_6 19 rfl rfl)
theorem dX14_runTick_162 : decode cX14_runTick 162 = .ok (.goto 32, 3) := dk_167 0 32 (dk_at dksX14_runTick_7 0 rfl rfl)
theorem dX14_runTick_165 : decode cX14_runTick 165 = .ok (.aload_n 0, 1) := dk_42 (dk_at dksX14_runTick_7 3 rfl rfl)
theorem dX14_runTick_166 : decode cX14_runTick 166 = .ok (.getfield 45, 3) := dk_180 0 45 (dk_at dksX14_runTick_7 4 rfl rfl)
theorem dX14_runTick_169 : decode cX14_runTick 169 = .ok (.iload_n 1, 1) := dk_27 (dk_at dksX14_runTick_7 7 rfl rfl)
theorem dX14_runTick_170 : decode cX14_runTick 170 = .ok (.aload_n 0, 1) := dk_42 (dk_at dksX14_runTick_7 8 rfl rfl)
theorem dX14_runTick_171 : decode cX14_runTick 171 = .ok (.invokevirtual 341, 3) := dk_182 1 85 (dk_at dksX14_runTick_7 9 rfl rfl)
theorem dX14_runTick_174 : decode cX14_runTick 174 = .ok (.iastore, 1) := dk_79 (dk_at dksX14_runTick_7 12 rfl rfl)
theorem dX14_runTick_175 : decode cX14_runTick 175 = .ok (.aload_n 0, 1) := dk_42 (dk_at dksX14_runTick_7 13 rfl rfl)
theorem dX14_runTick_176 : decode cX14_runTick 176 = .ok (.getfield 63, 3) := dk_180 0 63 (dk_at dksX14_runTick_7 14 rfl rfl)
theorem dX14_runTick_179 : decode cX14_runTick 179 = .ok (.iload_n 1, 1) := dk_27 (dk_at dksX14_runTick_7 17 rfl rfl)
theorem dX14_runTick_180 : decode cX14_runTick 180 = .ok (.iconst 1, 1) := dk_4 (dk_at dksX14_runTick_7 18 rfl rfl)
theorem dX14_runTick_181 : decode cX14_runTick 181 = .ok (.iastore, 1) := dk_79 (dk_at dksX14_runTick_7 19 rfl rfl)
theorem dX14_runTick_182 : decode cX14_runTick 182 = .ok (.aload_n 0, 1) := dk_42 (dk_at dksX14_runTick_7 20 rfl rfl)
theorem dX14_runTick_183 : decode cX14_runTick 183 = .ok (.getfield 42, 3) := dk_180 0 42 (dk_at dksX14_runTick_7 21 rfl rfl)
theorem dX14_runTick_186 : decode cX14_runTick 186 = .ok (.iload_n 1, 1) := dk_27 (dk_at dksX14_runTick_8 0 rfl rfl)
theorem dX14_runTick_187 : decode cX14_runTick 187 = .ok (.aload_n 0, 1) := dk_42 (dk_at dksX14_runTick_8 1 rfl rfl)
theorem dX14_runTick_188 : decode cX14_runTick 188 = .ok (.getfield 13, 3) := dk_180 0 13 (dk_at dksX14_runTick_8 2 rfl rfl)
theorem dX14_runTick_191 : decode cX14_runTick 191 = .ok (.iconst 4, 1) := dk_7 (dk_at dksX14_runTick_8 5 rfl rfl)
theorem dX14_runTick_192 : decode cX14_runTick 192 = .ok (.iaload, 1) := dk_46 (dk_at dksX14_runTick_8 6 rfl rfl)
theorem dX14_runTick_193 : decode cX14_runTick 193 = .ok (.iastore, 1) := dk_79 (dk_at dksX14_runTick_8 7 rfl rfl)
theorem dX14_runTick_194 : decode cX14_runTick 194 = .ok (.iinc 1 1, 3) := dk_132 1 1 (dk_at dksX14_runTick_8 8 rfl rfl)
theorem dX14_runTick_197 : decode cX14_runTick 197 = .ok (.goto (-195), 3) := dk_167 255 61 (dk_at dksX14_runTick_8 11 rfl rfl)
theorem dX14_runTick_200 : decode cX14_runTick 200 = .ok (.return_, 1) := dk_177 (dk_at dksX14_runTick_8 14 rfl rfl)
abbrev cX14_isDrawn : ByteArray := prog_23_method_50_code
def yX14_isDrawn : MethodName := ⟨RX14, "isDrawn", "()Z"⟩
def dkwX14_isDrawn_1 : List UInt8 := [132, 1, 1, 167, 255, 233, 3, 172]
abbrev dktX14_isDrawn_1 : List UInt8 := dkwX14_isDrawn_1 ++ []
def dkwX14_isDrawn_0 : List UInt8 := [3, 60, 27, 42, 180, 1, 48, 162, 0, 21, 42, 180, 0, 63, 27, 46, 4, 160, 0, 5, 4, 172]
abbrev dktX14_isDrawn_0 : List UInt8 := dkwX14_isDrawn_0 ++ dktX14_isDrawn_1
theorem dksX14_isDrawn_0 : cX14_isDrawn.data.toList.drop 0 = dktX14_isDrawn_0 := by decide +kernel
theorem dksX14_isDrawn_1 : cX14_isDrawn.data.toList.drop 22 = dktX14_isDrawn_1 := dk_seg dksX14_isDrawn_0 22 rfl rfl
theorem dX14_isDrawn_0 : decode cX14_isDrawn 0 = .ok (.iconst 0, 1) := dk_3 (dk_at dksX14_isDrawn_0 0 rfl rfl)
theorem dX14_isDrawn_1 : decode cX14_isDrawn 1 = .ok (.istore_n 1, 1) := dk_60 (dk_at dksX14_isDrawn_0 1 rfl rfl)
theorem dX14_isDrawn_2 : decode cX14_isDrawn 2 = .ok (.iload_n 1, 1) := dk_27 (dk_at dksX14_isDrawn_0 2 rfl rfl)
theorem dX14_isDrawn_3 : decode cX14_isDrawn 3 = .ok (.aload_n 0, 1) := dk_42 (dk_at dksX14_isDrawn_0 3 rfl rfl)
theorem dX14_isDrawn_4 : decode cX14_isDrawn 4 = .ok (.getfield 304, 3) := dk_180 1 48 (dk_at dksX14_isDrawn_0 4 rfl rfl)
theorem dX14_isDrawn_7 : decode cX14_isDrawn 7 = .ok (.if_icmp .ge 21, 3) := dk_162 0 21 (dk_at dksX14_isDrawn_0 7 rfl rfl)
theorem dX14_isDrawn_10 : decode cX14_isDrawn 10 = .ok (.aload_n 0, 1) := dk_42 (dk_at dksX14_isDrawn_0 10 rfl rfl)
theorem dX14_isDrawn_11 : decode cX14_isDrawn 11 = .ok (.getfield 63, 3) := dk_180 0 63 (dk_at dksX14_isDrawn_0 11 rfl rfl)
theorem dX14_isDrawn_14 : decode cX14_isDrawn 14 = .ok (.iload_n 1, 1) := dk_27 (dk_at dksX14_isDrawn_0 14 rfl rfl)
theorem dX14_isDrawn_15 : decode cX14_isDrawn 15 = .ok (.iaload, 1) := dk_46 (dk_at dksX14_isDrawn_0 15 rfl rfl)
theorem dX14_isDrawn_16 : decode cX14_isDrawn 16 = .ok (.iconst 1, 1) := dk_4 (dk_at dksX14_isDrawn_0 16 rfl rfl)
theorem dX14_isDrawn_17 : decode cX14_isDrawn 17 = .ok (.if_icmp .ne 5, 3) := dk_160 0 5 (dk_at dksX14_isDrawn_0 17 rfl rfl)
theorem dX14_isDrawn_20 : decode cX14_isDrawn 20 = .ok (.iconst 1, 1) := dk_4 (dk_at dksX14_isDrawn_0 20 rfl rfl)
theorem dX14_isDrawn_21 : decode cX14_isDrawn 21 = .ok (.ireturn, 1) := dk_172 (dk_at dksX14_isDrawn_0 21 rfl rfl)
theorem dX14_isDrawn_22 : decode cX14_isDrawn 22 = .ok (.iinc 1 1, 3) := dk_132 1 1 (dk_at dksX14_isDrawn_1 0 rfl rfl)
theorem dX14_isDrawn_25 : decode cX14_isDrawn 25 = .ok (.goto (-23), 3) := dk_167 255 233 (dk_at dksX14_isDrawn_1 3 rfl rfl)
theorem dX14_isDrawn_28 : decode cX14_isDrawn 28 = .ok (.iconst 0, 1) := dk_3 (dk_at dksX14_isDrawn_1 6 rfl rfl)
theorem dX14_isDrawn_29 : decode cX14_isDrawn 29 = .ok (.ireturn, 1) := dk_172 (dk_at dksX14_isDrawn_1 7 rfl rfl)
abbrev cX14_rowBy : ByteArray := prog_23_method_56_code
def yX14_rowBy : MethodName := ⟨RX14, "rowBy", "(I)I"⟩
def dkwX14_rowBy_1 : List UInt8 := [172]
abbrev dktX14_rowBy_1 : List UInt8 := dkwX14_rowBy_1 ++ []
def dkwX14_rowBy_0 : List UInt8 := [42, 3, 181, 0, 148, 27, 3, 8, 184, 0, 219, 153, 0, 12, 42, 180, 0, 66, 27, 46, 167, 0, 4, 2]
abbrev dktX14_rowBy_0 : List UInt8 := dkwX14_rowBy_0 ++ dktX14_rowBy_1
theorem dksX14_rowBy_0 : cX14_rowBy.data.toList.drop 0 = dktX14_rowBy_0 := by decide +kernel
theorem dksX14_rowBy_1 : cX14_rowBy.data.toList.drop 24 = dktX14_rowBy_1 := dk_seg dksX14_rowBy_0 24 rfl rfl
theorem dX14_rowBy_0 : decode cX14_rowBy 0 = .ok (.aload_n 0, 1) := dk_42 (dk_at dksX14_rowBy_0 0 rfl rfl)
theorem dX14_rowBy_1 : decode cX14_rowBy 1 = .ok (.iconst 0, 1) := dk_3 (dk_at dksX14_rowBy_0 1 rfl rfl)
theorem dX14_rowBy_2 : decode cX14_rowBy 2 = .ok (.putfield 148, 3) := dk_181 0 148 (dk_at dksX14_rowBy_0 2 rfl rfl)
theorem dX14_rowBy_5 : decode cX14_rowBy 5 = .ok (.iload_n 1, 1) := dk_27 (dk_at dksX14_rowBy_0 5 rfl rfl)
theorem dX14_rowBy_6 : decode cX14_rowBy 6 = .ok (.iconst 0, 1) := dk_3 (dk_at dksX14_rowBy_0 6 rfl rfl)
theorem dX14_rowBy_7 : decode cX14_rowBy 7 = .ok (.iconst 5, 1) := dk_8 (dk_at dksX14_rowBy_0 7 rfl rfl)
theorem dX14_rowBy_8 : decode cX14_rowBy 8 = .ok (.invokestatic 219, 3) := dk_184 0 219 (dk_at dksX14_rowBy_0 8 rfl rfl)
theorem dX14_rowBy_11 : decode cX14_rowBy 11 = .ok (.ifCond .eq 12, 3) := dk_153 0 12 (dk_at dksX14_rowBy_0 11 rfl rfl)
theorem dX14_rowBy_14 : decode cX14_rowBy 14 = .ok (.aload_n 0, 1) := dk_42 (dk_at dksX14_rowBy_0 14 rfl rfl)
theorem dX14_rowBy_15 : decode cX14_rowBy 15 = .ok (.getfield 66, 3) := dk_180 0 66 (dk_at dksX14_rowBy_0 15 rfl rfl)
theorem dX14_rowBy_18 : decode cX14_rowBy 18 = .ok (.iload_n 1, 1) := dk_27 (dk_at dksX14_rowBy_0 18 rfl rfl)
theorem dX14_rowBy_19 : decode cX14_rowBy 19 = .ok (.iaload, 1) := dk_46 (dk_at dksX14_rowBy_0 19 rfl rfl)
theorem dX14_rowBy_20 : decode cX14_rowBy 20 = .ok (.goto 4, 3) := dk_167 0 4 (dk_at dksX14_rowBy_0 20 rfl rfl)
theorem dX14_rowBy_23 : decode cX14_rowBy 23 = .ok (.iconst (-1), 1) := dk_2 (dk_at dksX14_rowBy_0 23 rfl rfl)
theorem dX14_rowBy_24 : decode cX14_rowBy 24 = .ok (.ireturn, 1) := dk_172 (dk_at dksX14_rowBy_1 0 rfl rfl)
abbrev cX14_done : ByteArray := prog_23_method_57_code
def yX14_done : MethodName := ⟨RX14, "done", "(I)I"⟩
def dkwX14_done_1 : List UInt8 := [167, 0, 4, 2, 172]
abbrev dktX14_done_1 : List UInt8 := dkwX14_done_1 ++ []
def dkwX14_done_0 : List UInt8 := [42, 3, 181, 0, 148, 27, 155, 0, 20, 27, 42, 180, 1, 124, 162, 0, 12, 42, 180, 0, 69, 27, 46]
abbrev dktX14_done_0 : List UInt8 := dkwX14_done_0 ++ dktX14_done_1
theorem dksX14_done_0 : cX14_done.data.toList.drop 0 = dktX14_done_0 := by decide +kernel
theorem dksX14_done_1 : cX14_done.data.toList.drop 23 = dktX14_done_1 := dk_seg dksX14_done_0 23 rfl rfl
theorem dX14_done_0 : decode cX14_done 0 = .ok (.aload_n 0, 1) := dk_42 (dk_at dksX14_done_0 0 rfl rfl)
theorem dX14_done_1 : decode cX14_done 1 = .ok (.iconst 0, 1) := dk_3 (dk_at dksX14_done_0 1 rfl rfl)
theorem dX14_done_2 : decode cX14_done 2 = .ok (.putfield 148, 3) := dk_181 0 148 (dk_at dksX14_done_0 2 rfl rfl)
theorem dX14_done_5 : decode cX14_done 5 = .ok (.iload_n 1, 1) := dk_27 (dk_at dksX14_done_0 5 rfl rfl)
theorem dX14_done_6 : decode cX14_done 6 = .ok (.ifCond .lt 20, 3) := dk_155 0 20 (dk_at dksX14_done_0 6 rfl rfl)
theorem dX14_done_9 : decode cX14_done 9 = .ok (.iload_n 1, 1) := dk_27 (dk_at dksX14_done_0 9 rfl rfl)
theorem dX14_done_10 : decode cX14_done 10 = .ok (.aload_n 0, 1) := dk_42 (dk_at dksX14_done_0 10 rfl rfl)
theorem dX14_done_11 : decode cX14_done 11 = .ok (.getfield 380, 3) := dk_180 1 124 (dk_at dksX14_done_0 11 rfl rfl)
theorem dX14_done_14 : decode cX14_done 14 = .ok (.if_icmp .ge 12, 3) := dk_162 0 12 (dk_at dksX14_done_0 14 rfl rfl)
theorem dX14_done_17 : decode cX14_done 17 = .ok (.aload_n 0, 1) := dk_42 (dk_at dksX14_done_0 17 rfl rfl)
theorem dX14_done_18 : decode cX14_done 18 = .ok (.getfield 69, 3) := dk_180 0 69 (dk_at dksX14_done_0 18 rfl rfl)
theorem dX14_done_21 : decode cX14_done 21 = .ok (.iload_n 1, 1) := dk_27 (dk_at dksX14_done_0 21 rfl rfl)
theorem dX14_done_22 : decode cX14_done 22 = .ok (.iaload, 1) := dk_46 (dk_at dksX14_done_0 22 rfl rfl)
theorem dX14_done_23 : decode cX14_done 23 = .ok (.goto 4, 3) := dk_167 0 4 (dk_at dksX14_done_1 0 rfl rfl)
theorem dX14_done_26 : decode cX14_done 26 = .ok (.iconst (-1), 1) := dk_2 (dk_at dksX14_done_1 3 rfl rfl)
theorem dX14_done_27 : decode cX14_done 27 = .ok (.ireturn, 1) := dk_172 (dk_at dksX14_done_1 4 rfl rfl)
abbrev cX14_period : ByteArray := prog_23_method_59_code
def yX14_period : MethodName := ⟨RX14, "period", "()I"⟩
def dkwX14_period_1 : List UInt8 := [167, 0, 4, 2, 172]
abbrev dktX14_period_1 : List UInt8 := dkwX14_period_1 ++ []
def dkwX14_period_0 : List UInt8 := [42, 3, 181, 0, 148, 42, 5, 16, 12, 4, 182, 1, 116, 153, 0, 14, 42, 42, 180, 1, 48, 182, 1, 127]
abbrev dktX14_period_0 : List UInt8 := dkwX14_period_0 ++ dktX14_period_1
theorem dksX14_period_0 : cX14_period.data.toList.drop 0 = dktX14_period_0 := by decide +kernel
theorem dksX14_period_1 : cX14_period.data.toList.drop 24 = dktX14_period_1 := dk_seg dksX14_period_0 24 rfl rfl
theorem dX14_period_0 : decode cX14_period 0 = .ok (.aload_n 0, 1) := dk_42 (dk_at dksX14_period_0 0 rfl rfl)
theorem dX14_period_1 : decode cX14_period 1 = .ok (.iconst 0, 1) := dk_3 (dk_at dksX14_period_0 1 rfl rfl)
theorem dX14_period_2 : decode cX14_period 2 = .ok (.putfield 148, 3) := dk_181 0 148 (dk_at dksX14_period_0 2 rfl rfl)
theorem dX14_period_5 : decode cX14_period 5 = .ok (.aload_n 0, 1) := dk_42 (dk_at dksX14_period_0 5 rfl rfl)
theorem dX14_period_6 : decode cX14_period 6 = .ok (.iconst 2, 1) := dk_5 (dk_at dksX14_period_0 6 rfl rfl)
theorem dX14_period_7 : decode cX14_period 7 = .ok (.bipush 12, 2) := dk_16 12 (dk_at dksX14_period_0 7 rfl rfl)
theorem dX14_period_9 : decode cX14_period 9 = .ok (.iconst 1, 1) := dk_4 (dk_at dksX14_period_0 9 rfl rfl)
theorem dX14_period_10 : decode cX14_period 10 = .ok (.invokevirtual 372, 3) := dk_182 1 116 (dk_at dksX14_period_0 10 rfl rfl)
theorem dX14_period_13 : decode cX14_period 13 = .ok (.ifCond .eq 14, 3) := dk_153 0 14 (dk_at dksX14_period_0 13 rfl rfl)
theorem dX14_period_16 : decode cX14_period 16 = .ok (.aload_n 0, 1) := dk_42 (dk_at dksX14_period_0 16 rfl rfl)
theorem dX14_period_17 : decode cX14_period 17 = .ok (.aload_n 0, 1) := dk_42 (dk_at dksX14_period_0 17 rfl rfl)
theorem dX14_period_18 : decode cX14_period 18 = .ok (.getfield 304, 3) := dk_180 1 48 (dk_at dksX14_period_0 18 rfl rfl)
theorem dX14_period_21 : decode cX14_period 21 = .ok (.invokevirtual 383, 3) := dk_182 1 127 (dk_at dksX14_period_0 21 rfl rfl)
theorem dX14_period_24 : decode cX14_period 24 = .ok (.goto 4, 3) := dk_167 0 4 (dk_at dksX14_period_1 0 rfl rfl)
theorem dX14_period_27 : decode cX14_period 27 = .ok (.iconst (-1), 1) := dk_2 (dk_at dksX14_period_1 3 rfl rfl)
theorem dX14_period_28 : decode cX14_period 28 = .ok (.ireturn, 1) := dk_172 (dk_at dksX14_period_1 4 rfl rfl)
abbrev cX14_periodOf : ByteArray := prog_23_method_58_code
def yX14_periodOf : MethodName := ⟨RX14, "periodOf", "(I)I"⟩
def dkwX14_periodOf_1 : List UInt8 := [164, 0, 16, 42, 29, 27, 42, 180, 0, 39, 29, 46, 182, 1, 91, 61, 132, 3, 1, 167, 255, 219, 28, 172]
abbrev dktX14_periodOf_1 : List UInt8 := dkwX14_periodOf_1 ++ []
def dkwX14_periodOf_0 : List UInt8 := [3, 61, 3, 62, 29, 27, 162, 0, 38, 42, 29, 27, 42, 180, 0, 39, 29, 46, 182, 1, 91, 28]
abbrev dktX14_periodOf_0 : List UInt8 := dkwX14_periodOf_0 ++ dktX14_periodOf_1
theorem dksX14_periodOf_0 : cX14_periodOf.data.toList.drop 0 = dktX14_periodOf_0 := by decide +kernel
theorem dksX14_periodOf_1 : cX14_periodOf.data.toList.drop 22 = dktX14_periodOf_1 := dk_seg dksX14_periodOf_0 22 rfl rfl
theorem dX14_periodOf_0 : decode cX14_periodOf 0 = .ok (.iconst 0, 1) := dk_3 (dk_at dksX14_periodOf_0 0 rfl rfl)
theorem dX14_periodOf_1 : decode cX14_periodOf 1 = .ok (.istore_n 2, 1) := dk_61 (dk_at dksX14_periodOf_0 1 rfl rfl)
theorem dX14_periodOf_2 : decode cX14_periodOf 2 = .ok (.iconst 0, 1) := dk_3 (dk_at dksX14_periodOf_0 2 rfl rfl)
theorem dX14_periodOf_3 : decode cX14_periodOf 3 = .ok (.istore_n 3, 1) := dk_62 (dk_at dksX14_periodOf_0 3 rfl rfl)
theorem dX14_periodOf_4 : decode cX14_periodOf 4 = .ok (.iload_n 3, 1) := dk_29 (dk_at dksX14_periodOf_0 4 rfl rfl)
theorem dX14_periodOf_5 : decode cX14_periodOf 5 = .ok (.iload_n 1, 1) := dk_27 (dk_at dksX14_periodOf_0 5 rfl rfl)
theorem dX14_periodOf_6 : decode cX14_periodOf 6 = .ok (.if_icmp .ge 38, 3) := dk_162 0 38 (dk_at dksX14_periodOf_0 6 rfl rfl)
theorem dX14_periodOf_9 : decode cX14_periodOf 9 = .ok (.aload_n 0, 1) := dk_42 (dk_at dksX14_periodOf_0 9 rfl rfl)
theorem dX14_periodOf_10 : decode cX14_periodOf 10 = .ok (.iload_n 3, 1) := dk_29 (dk_at dksX14_periodOf_0 10 rfl rfl)
theorem dX14_periodOf_11 : decode cX14_periodOf 11 = .ok (.iload_n 1, 1) := dk_27 (dk_at dksX14_periodOf_0 11 rfl rfl)
theorem dX14_periodOf_12 : decode cX14_periodOf 12 = .ok (.aload_n 0, 1) := dk_42 (dk_at dksX14_periodOf_0 12 rfl rfl)
theorem dX14_periodOf_13 : decode cX14_periodOf 13 = .ok (.getfield 39, 3) := dk_180 0 39 (dk_at dksX14_periodOf_0 13 rfl rfl)
theorem dX14_periodOf_16 : decode cX14_periodOf 16 = .ok (.iload_n 3, 1) := dk_29 (dk_at dksX14_periodOf_0 16 rfl rfl)
theorem dX14_periodOf_17 : decode cX14_periodOf 17 = .ok (.iaload, 1) := dk_46 (dk_at dksX14_periodOf_0 17 rfl rfl)
theorem dX14_periodOf_18 : decode cX14_periodOf 18 = .ok (.invokevirtual 347, 3) := dk_182 1 91 (dk_at dksX14_periodOf_0 18 rfl rfl)
theorem dX14_periodOf_21 : decode cX14_periodOf 21 = .ok (.iload_n 2, 1) := dk_28 (dk_at dksX14_periodOf_0 21 rfl rfl)
theorem dX14_periodOf_22 : decode cX14_periodOf 22 = .ok (.if_icmp .le 16, 3) := dk_164 0 16 (dk_at dksX14_periodOf_1 0 rfl rfl)
theorem dX14_periodOf_25 : decode cX14_periodOf 25 = .ok (.aload_n 0, 1) := dk_42 (dk_at dksX14_periodOf_1 3 rfl rfl)
theorem dX14_periodOf_26 : decode cX14_periodOf 26 = .ok (.iload_n 3, 1) := dk_29 (dk_at dksX14_periodOf_1 4 rfl rfl)
theorem dX14_periodOf_27 : decode cX14_periodOf 27 = .ok (.iload_n 1, 1) := dk_27 (dk_at dksX14_periodOf_1 5 rfl rfl)
theorem dX14_periodOf_28 : decode cX14_periodOf 28 = .ok (.aload_n 0, 1) := dk_42 (dk_at dksX14_periodOf_1 6 rfl rfl)
theorem dX14_periodOf_29 : decode cX14_periodOf 29 = .ok (.getfield 39, 3) := dk_180 0 39 (dk_at dksX14_periodOf_1 7 rfl rfl)
theorem dX14_periodOf_32 : decode cX14_periodOf 32 = .ok (.iload_n 3, 1) := dk_29 (dk_at dksX14_periodOf_1 10 rfl rfl)
theorem dX14_periodOf_33 : decode cX14_periodOf 33 = .ok (.iaload, 1) := dk_46 (dk_at dksX14_periodOf_1 11 rfl rfl)
theorem dX14_periodOf_34 : decode cX14_periodOf 34 = .ok (.invokevirtual 347, 3) := dk_182 1 91 (dk_at dksX14_periodOf_1 12 rfl rfl)
theorem dX14_periodOf_37 : decode cX14_periodOf 37 = .ok (.istore_n 2, 1) := dk_61 (dk_at dksX14_periodOf_1 15 rfl rfl)
theorem dX14_periodOf_38 : decode cX14_periodOf 38 = .ok (.iinc 3 1, 3) := dk_132 3 1 (dk_at dksX14_periodOf_1 16 rfl rfl)
theorem dX14_periodOf_41 : decode cX14_periodOf 41 = .ok (.goto (-37), 3) := dk_167 255 219 (dk_at dksX14_periodOf_1 19 rfl rfl)
theorem dX14_periodOf_44 : decode cX14_periodOf 44 = .ok (.iload_n 2, 1) := dk_28 (dk_at dksX14_periodOf_1 22 rfl rfl)
theorem dX14_periodOf_45 : decode cX14_periodOf 45 = .ok (.ireturn, 1) := dk_172 (dk_at dksX14_periodOf_1 23 rfl rfl)
abbrev cX14_best : ByteArray := prog_23_method_61_code
def yX14_best : MethodName := ⟨RX14, "best", "()I"⟩
def dkwX14_best_6 : List UInt8 := [167, 255, 233, 42, 180, 1, 130, 172]
abbrev dktX14_best_6 : List UInt8 := dkwX14_best_6 ++ []
def dkwX14_best_5 : List UInt8 := [60, 27, 42, 180, 1, 140, 162, 0, 21, 42, 180, 0, 81, 27, 42, 180, 0, 78, 27, 46, 79, 132, 1, 1]
abbrev dktX14_best_5 : List UInt8 := dkwX14_best_5 ++ dktX14_best_6
def dkwX14_best_4 : List UInt8 := [167, 255, 190, 42, 2, 181, 1, 130, 42, 3, 3, 3, 182, 1, 136, 42, 42, 180, 1, 133, 181, 1, 140, 3]
abbrev dktX14_best_4 : List UInt8 := dkwX14_best_4 ++ dktX14_best_5
def dkwX14_best_3 : List UInt8 := [46, 79, 132, 2, 255, 167, 255, 218, 42, 180, 0, 75, 28, 42, 180, 0, 39, 27, 46, 79, 132, 1, 1]
abbrev dktX14_best_3 : List UInt8 := dkwX14_best_3 ++ dktX14_best_4
def dkwX14_best_2 : List UInt8 := [4, 100, 46, 42, 180, 0, 39, 27, 46, 164, 0, 23, 42, 180, 0, 75, 28, 42, 180, 0, 75, 28, 4, 100]
abbrev dktX14_best_2 : List UInt8 := dkwX14_best_2 ++ dktX14_best_3
def dkwX14_best_1 : List UInt8 := [181, 1, 133, 3, 60, 27, 42, 180, 1, 133, 162, 0, 64, 27, 61, 28, 158, 0, 40, 42, 180, 0, 75, 28]
abbrev dktX14_best_1 : List UInt8 := dkwX14_best_1 ++ dktX14_best_2
def dkwX14_best_0 : List UInt8 := [42, 3, 181, 0, 148, 42, 5, 16, 7, 4, 182, 1, 116, 154, 0, 5, 2, 172, 42, 42, 180, 1, 48]
abbrev dktX14_best_0 : List UInt8 := dkwX14_best_0 ++ dktX14_best_1
theorem dksX14_best_0 : cX14_best.data.toList.drop 0 = dktX14_best_0 := by decide +kernel
theorem dksX14_best_1 : cX14_best.data.toList.drop 23 = dktX14_best_1 := dk_seg dksX14_best_0 23 rfl rfl
theorem dksX14_best_2 : cX14_best.data.toList.drop 47 = dktX14_best_2 := dk_seg dksX14_best_1 24 rfl rfl
theorem dksX14_best_3 : cX14_best.data.toList.drop 71 = dktX14_best_3 := dk_seg dksX14_best_2 24 rfl rfl
theorem dksX14_best_4 : cX14_best.data.toList.drop 94 = dktX14_best_4 := dk_seg dksX14_best_3 23 rfl rfl
theorem dksX14_best_5 : cX14_best.data.toList.drop 118 = dktX14_best_5 := dk_seg dksX14_best_4 24 rfl rfl
theorem dksX14_best_6 : cX14_best.data.toList.drop 142 = dktX14_best_6 := dk_seg dksX14_best_5 24 rfl rfl
theorem dX14_best_0 : decode cX14_best 0 = .ok (.aload_n 0, 1) := dk_42 (dk_at dksX14_best_0 0 rfl rfl)
theorem dX14_best_1 : decode cX14_best 1 = .ok (.iconst 0, 1) := dk_3 (dk_at dksX14_best_0 1 rfl rfl)
theorem dX14_best_2 : decode cX14_best 2 = .ok (.putfield 148, 3) := dk_181 0 148 (dk_at dksX14_best_0 2 rfl rfl)
theorem dX14_best_5 : decode cX14_best 5 = .ok (.aload_n 0, 1) := dk_42 (dk_at dksX14_best_0 5 rfl rfl)
theorem dX14_best_6 : decode cX14_best 6 = .ok (.iconst 2, 1) := dk_5 (dk_at dksX14_best_0 6 rfl rfl)
theorem dX14_best_7 : decode cX14_best 7 = .ok (.bipush 7, 2) := dk_16 7 (dk_at dksX14_best_0 7 rfl rfl)
theorem dX14_best_9 : decode cX14_best 9 = .ok (.iconst 1, 1) := dk_4 (dk_at dksX14_best_0 9 rfl rfl)
theorem dX14_best_10 : decode cX14_best 10 = .ok (.invokevirtual 372, 3) := dk_182 1 116 (dk_at dksX14_best_0 10 rfl rfl)
theorem dX14_best_13 : decode cX14_best 13 = .ok (.ifCond .ne 5, 3) := dk_154 0 5 (dk_at dksX14_best_0 13 rfl rfl)
theorem dX14_best_16 : decode cX14_best 16 = .ok (.iconst (-1), 1) := dk_2 (dk_at dksX14_best_0 16 rfl rfl)
theorem dX14_best_17 : decode cX14_best 17 = .ok (.ireturn, 1) := dk_172 (dk_at dksX14_best_0 17 rfl rfl)
theorem dX14_best_18 : decode cX14_best 18 = .ok (.aload_n 0, 1) := dk_42 (dk_at dksX14_best_0 18 rfl rfl)
theorem dX14_best_19 : decode cX14_best 19 = .ok (.aload_n 0, 1) := dk_42 (dk_at dksX14_best_0 19 rfl rfl)
theorem dX14_best_20 : decode cX14_best 20 = .ok (.getfield 304, 3) := dk_180 1 48 (dk_at dksX14_best_0 20 rfl rfl)
theorem dX14_best_23 : decode cX14_best 23 = .ok (.putfield 389, 3) := dk_181 1 133 (dk_at dksX14_best_1 0 rfl rfl)
theorem dX14_best_26 : decode cX14_best 26 = .ok (.iconst 0, 1) := dk_3 (dk_at dksX14_best_1 3 rfl rfl)
theorem dX14_best_27 : decode cX14_best 27 = .ok (.istore_n 1, 1) := dk_60 (dk_at dksX14_best_1 4 rfl rfl)
theorem dX14_best_28 : decode cX14_best 28 = .ok (.iload_n 1, 1) := dk_27 (dk_at dksX14_best_1 5 rfl rfl)
theorem dX14_best_29 : decode cX14_best 29 = .ok (.aload_n 0, 1) := dk_42 (dk_at dksX14_best_1 6 rfl rfl)
theorem dX14_best_30 : decode cX14_best 30 = .ok (.getfield 389, 3) := dk_180 1 133 (dk_at dksX14_best_1 7 rfl rfl)
theorem dX14_best_33 : decode cX14_best 33 = .ok (.if_icmp .ge 64, 3) := dk_162 0 64 (dk_at dksX14_best_1 10 rfl rfl)
theorem dX14_best_36 : decode cX14_best 36 = .ok (.iload_n 1, 1) := dk_27 (dk_at dksX14_best_1 13 rfl rfl)
theorem dX14_best_37 : decode cX14_best 37 = .ok (.istore_n 2, 1) := dk_61 (dk_at dksX14_best_1 14 rfl rfl)
theorem dX14_best_38 : decode cX14_best 38 = .ok (.iload_n 2, 1) := dk_28 (dk_at dksX14_best_1 15 rfl rfl)
theorem dX14_best_39 : decode cX14_best 39 = .ok (.ifCond .le 40, 3) := dk_158 0 40 (dk_at dksX14_best_1 16 rfl rfl)
theorem dX14_best_42 : decode cX14_best 42 = .ok (.aload_n 0, 1) := dk_42 (dk_at dksX14_best_1 19 rfl rfl)
theorem dX14_best_43 : decode cX14_best 43 = .ok (.getfield 75, 3) := dk_180 0 75 (dk_at dksX14_best_1 20 rfl rfl)
theorem dX14_best_46 : decode cX14_best 46 = .ok (.iload_n 2, 1) := dk_28 (dk_at dksX14_best_1 23 rfl rfl)
theorem dX14_best_47 : decode cX14_best 47 = .ok (.iconst 1, 1) := dk_4 (dk_at dksX14_best_2 0 rfl rfl)
theorem dX14_best_48 : decode cX14_best 48 = .ok (.isub, 1) := dk_100 (dk_at dksX14_best_2 1 rfl rfl)
theorem dX14_best_49 : decode cX14_best 49 = .ok (.iaload, 1) := dk_46 (dk_at dksX14_best_2 2 rfl rfl)
theorem dX14_best_50 : decode cX14_best 50 = .ok (.aload_n 0, 1) := dk_42 (dk_at dksX14_best_2 3 rfl rfl)
theorem dX14_best_51 : decode cX14_best 51 = .ok (.getfield 39, 3) := dk_180 0 39 (dk_at dksX14_best_2 4 rfl rfl)
theorem dX14_best_54 : decode cX14_best 54 = .ok (.iload_n 1, 1) := dk_27 (dk_at dksX14_best_2 7 rfl rfl)
theorem dX14_best_55 : decode cX14_best 55 = .ok (.iaload, 1) := dk_46 (dk_at dksX14_best_2 8 rfl rfl)
theorem dX14_best_56 : decode cX14_best 56 = .ok (.if_icmp .le 23, 3) := dk_164 0 23 (dk_at dksX14_best_2 9 rfl rfl)
theorem dX14_best_59 : decode cX14_best 59 = .ok (.aload_n 0, 1) := dk_42 (dk_at dksX14_best_2 12 rfl rfl)
theorem dX14_best_60 : decode cX14_best 60 = .ok (.getfield 75, 3) := dk_180 0 75 (dk_at dksX14_best_2 13 rfl rfl)
theorem dX14_best_63 : decode cX14_best 63 = .ok (.iload_n 2, 1) := dk_28 (dk_at dksX14_best_2 16 rfl rfl)
theorem dX14_best_64 : decode cX14_best 64 = .ok (.aload_n 0, 1) := dk_42 (dk_at dksX14_best_2 17 rfl rfl)
theorem dX14_best_65 : decode cX14_best 65 = .ok (.getfield 75, 3) := dk_180 0 75 (dk_at dksX14_best_2 18 rfl rfl)
theorem dX14_best_68 : decode cX14_best 68 = .ok (.iload_n 2, 1) := dk_28 (dk_at dksX14_best_2 21 rfl rfl)
theorem dX14_best_69 : decode cX14_best 69 = .ok (.iconst 1, 1) := dk_4 (dk_at dksX14_best_2 22 rfl rfl)
theorem dX14_best_70 : decode cX14_best 70 = .ok (.isub, 1) := dk_100 (dk_at dksX14_best_2 23 rfl rfl)
theorem dX14_best_71 : decode cX14_best 71 = .ok (.iaload, 1) := dk_46 (dk_at dksX14_best_3 0 rfl rfl)
theorem dX14_best_72 : decode cX14_best 72 = .ok (.iastore, 1) := dk_79 (dk_at dksX14_best_3 1 rfl rfl)
theorem dX14_best_73 : decode cX14_best 73 = .ok (.iinc 2 (-1), 3) := dk_132 2 255 (dk_at dksX14_best_3 2 rfl rfl)
theorem dX14_best_76 : decode cX14_best 76 = .ok (.goto (-38), 3) := dk_167 255 218 (dk_at dksX14_best_3 5 rfl rfl)
theorem dX14_best_79 : decode cX14_best 79 = .ok (.aload_n 0, 1) := dk_42 (dk_at dksX14_best_3 8 rfl rfl)
theorem dX14_best_80 : decode cX14_best 80 = .ok (.getfield 75, 3) := dk_180 0 75 (dk_at dksX14_best_3 9 rfl rfl)
theorem dX14_best_83 : decode cX14_best 83 = .ok (.iload_n 2, 1) := dk_28 (dk_at dksX14_best_3 12 rfl rfl)
theorem dX14_best_84 : decode cX14_best 84 = .ok (.aload_n 0, 1) := dk_42 (dk_at dksX14_best_3 13 rfl rfl)
theorem dX14_best_85 : decode cX14_best 85 = .ok (.getfield 39, 3) := dk_180 0 39 (dk_at dksX14_best_3 14 rfl rfl)
theorem dX14_best_88 : decode cX14_best 88 = .ok (.iload_n 1, 1) := dk_27 (dk_at dksX14_best_3 17 rfl rfl)
theorem dX14_best_89 : decode cX14_best 89 = .ok (.iaload, 1) := dk_46 (dk_at dksX14_best_3 18 rfl rfl)
theorem dX14_best_90 : decode cX14_best 90 = .ok (.iastore, 1) := dk_79 (dk_at dksX14_best_3 19 rfl rfl)
theorem dX14_best_91 : decode cX14_best 91 = .ok (.iinc 1 1, 3) := dk_132 1 1 (dk_at dksX14_best_3 20 rfl rfl)
theorem dX14_best_94 : decode cX14_best 94 = .ok (.goto (-66), 3) := dk_167 255 190 (dk_at dksX14_best_4 0 rfl rfl)
theorem dX14_best_97 : decode cX14_best 97 = .ok (.aload_n 0, 1) := dk_42 (dk_at dksX14_best_4 3 rfl rfl)
theorem dX14_best_98 : decode cX14_best 98 = .ok (.iconst (-1), 1) := dk_2 (dk_at dksX14_best_4 4 rfl rfl)
theorem dX14_best_99 : decode cX14_best 99 = .ok (.putfield 386, 3) := dk_181 1 130 (dk_at dksX14_best_4 5 rfl rfl)
theorem dX14_best_102 : decode cX14_best 102 = .ok (.aload_n 0, 1) := dk_42 (dk_at dksX14_best_4 8 rfl rfl)
theorem dX14_best_103 : decode cX14_best 103 = .ok (.iconst 0, 1) := dk_3 (dk_at dksX14_best_4 9 rfl rfl)
theorem dX14_best_104 : decode cX14_best 104 = .ok (.iconst 0, 1) := dk_3 (dk_at dksX14_best_4 10 rfl rfl)
theorem dX14_best_105 : decode cX14_best 105 = .ok (.iconst 0, 1) := dk_3 (dk_at dksX14_best_4 11 rfl rfl)
theorem dX14_best_106 : decode cX14_best 106 = .ok (.invokevirtual 392, 3) := dk_182 1 136 (dk_at dksX14_best_4 12 rfl rfl)
theorem dX14_best_109 : decode cX14_best 109 = .ok (.aload_n 0, 1) := dk_42 (dk_at dksX14_best_4 15 rfl rfl)
theorem dX14_best_110 : decode cX14_best 110 = .ok (.aload_n 0, 1) := dk_42 (dk_at dksX14_best_4 16 rfl rfl)
theorem dX14_best_111 : decode cX14_best 111 = .ok (.getfield 389, 3) := dk_180 1 133 (dk_at dksX14_best_4 17 rfl rfl)
theorem dX14_best_114 : decode cX14_best 114 = .ok (.putfield 396, 3) := dk_181 1 140 (dk_at dksX14_best_4 20 rfl rfl)
theorem dX14_best_117 : decode cX14_best 117 = .ok (.iconst 0, 1) := dk_3 (dk_at dksX14_best_4 23 rfl rfl)
theorem dX14_best_118 : decode cX14_best 118 = .ok (.istore_n 1, 1) := dk_60 (dk_at dksX14_best_5 0 rfl rfl)
theorem dX14_best_119 : decode cX14_best 119 = .ok (.iload_n 1, 1) := dk_27 (dk_at dksX14_best_5 1 rfl rfl)
theorem dX14_best_120 : decode cX14_best 120 = .ok (.aload_n 0, 1) := dk_42 (dk_at dksX14_best_5 2 rfl rfl)
theorem dX14_best_121 : decode cX14_best 121 = .ok (.getfield 396, 3) := dk_180 1 140 (dk_at dksX14_best_5 3 rfl rfl)
theorem dX14_best_124 : decode cX14_best 124 = .ok (.if_icmp .ge 21, 3) := dk_162 0 21 (dk_at dksX14_best_5 6 rfl rfl)
theorem dX14_best_127 : decode cX14_best 127 = .ok (.aload_n 0, 1) := dk_42 (dk_at dksX14_best_5 9 rfl rfl)
theorem dX14_best_128 : decode cX14_best 128 = .ok (.getfield 81, 3) := dk_180 0 81 (dk_at dksX14_best_5 10 rfl rfl)
theorem dX14_best_131 : decode cX14_best 131 = .ok (.iload_n 1, 1) := dk_27 (dk_at dksX14_best_5 13 rfl rfl)
theorem dX14_best_132 : decode cX14_best 132 = .ok (.aload_n 0, 1) := dk_42 (dk_at dksX14_best_5 14 rfl rfl)
theorem dX14_best_133 : decode cX14_best 133 = .ok (.getfield 78, 3) := dk_180 0 78 (dk_at dksX14_best_5 15 rfl rfl)
theorem dX14_best_136 : decode cX14_best 136 = .ok (.iload_n 1, 1) := dk_27 (dk_at dksX14_best_5 18 rfl rfl)
theorem dX14_best_137 : decode cX14_best 137 = .ok (.iaload, 1) := dk_46 (dk_at dksX14_best_5 19 rfl rfl)
theorem dX14_best_138 : decode cX14_best 138 = .ok (.iastore, 1) := dk_79 (dk_at dksX14_best_5 20 rfl rfl)
theorem dX14_best_139 : decode cX14_best 139 = .ok (.iinc 1 1, 3) := dk_132 1 1 (dk_at dksX14_best_5 21 rfl rfl)
theorem dX14_best_142 : decode cX14_best 142 = .ok (.goto (-23), 3) := dk_167 255 233 (dk_at dksX14_best_6 0 rfl rfl)
theorem dX14_best_145 : decode cX14_best 145 = .ok (.aload_n 0, 1) := dk_42 (dk_at dksX14_best_6 3 rfl rfl)
theorem dX14_best_146 : decode cX14_best 146 = .ok (.getfield 386, 3) := dk_180 1 130 (dk_at dksX14_best_6 4 rfl rfl)
theorem dX14_best_149 : decode cX14_best 149 = .ok (.ireturn, 1) := dk_172 (dk_at dksX14_best_6 7 rfl rfl)
abbrev cX14_tryOrder : ByteArray := prog_23_method_60_code
def yX14_tryOrder : MethodName := ⟨RX14, "tryOrder", "(III)V"⟩
def dkwX14_tryOrder_6 : List UInt8 := [132, 4, 1, 167, 255, 176, 177]
abbrev dktX14_tryOrder_6 : List UInt8 := dkwX14_tryOrder_6 ++ []
def dkwX14_tryOrder_5 : List UInt8 := [4, 96, 28, 4, 21, 4, 120, 128, 21, 5, 29, 164, 0, 8, 21, 5, 167, 0, 4, 29, 182, 1, 136]
abbrev dktX14_tryOrder_5 : List UInt8 := dkwX14_tryOrder_5 ++ dktX14_tryOrder_6
def dkwX14_tryOrder_4 : List UInt8 := [21, 4, 46, 79, 42, 27, 42, 180, 1, 133, 42, 180, 0, 75, 21, 4, 46, 182, 1, 91, 54, 5, 42, 27]
abbrev dktX14_tryOrder_4 : List UInt8 := dkwX14_tryOrder_4 ++ dktX14_tryOrder_5
def dkwX14_tryOrder_3 : List UInt8 := [162, 0, 77, 28, 21, 4, 184, 1, 2, 153, 0, 6, 167, 0, 59, 42, 180, 0, 72, 27, 42, 180, 0, 75]
abbrev dktX14_tryOrder_3 : List UInt8 := dkwX14_tryOrder_3 ++ dktX14_tryOrder_4
def dkwX14_tryOrder_2 : List UInt8 := [180, 0, 72, 21, 4, 46, 79, 132, 4, 1, 167, 255, 233, 177, 3, 54, 4, 21, 4, 42, 180, 1, 133]
abbrev dktX14_tryOrder_2 : List UInt8 := dkwX14_tryOrder_2 ++ dktX14_tryOrder_3
def dkwX14_tryOrder_1 : List UInt8 := [160, 0, 38, 42, 29, 181, 1, 130, 3, 54, 4, 21, 4, 27, 162, 0, 23, 42, 180, 0, 78, 21, 4, 42]
abbrev dktX14_tryOrder_1 : List UInt8 := dkwX14_tryOrder_1 ++ dktX14_tryOrder_2
def dkwX14_tryOrder_0 : List UInt8 := [42, 180, 1, 130, 2, 159, 0, 12, 29, 42, 180, 1, 130, 161, 0, 4, 177, 27, 42, 180, 1, 133]
abbrev dktX14_tryOrder_0 : List UInt8 := dkwX14_tryOrder_0 ++ dktX14_tryOrder_1
theorem dksX14_tryOrder_0 : cX14_tryOrder.data.toList.drop 0 = dktX14_tryOrder_0 := by decide +kernel
theorem dksX14_tryOrder_1 : cX14_tryOrder.data.toList.drop 22 = dktX14_tryOrder_1 := dk_seg dksX14_tryOrder_0 22 rfl rfl
theorem dksX14_tryOrder_2 : cX14_tryOrder.data.toList.drop 46 = dktX14_tryOrder_2 := dk_seg dksX14_tryOrder_1 24 rfl rfl
theorem dksX14_tryOrder_3 : cX14_tryOrder.data.toList.drop 69 = dktX14_tryOrder_3 := dk_seg dksX14_tryOrder_2 23 rfl rfl
theorem dksX14_tryOrder_4 : cX14_tryOrder.data.toList.drop 93 = dktX14_tryOrder_4 := dk_seg dksX14_tryOrder_3 24 rfl rfl
theorem dksX14_tryOrder_5 : cX14_tryOrder.data.toList.drop 117 = dktX14_tryOrder_5 := dk_seg dksX14_tryOrder_4 24 rfl rfl
theorem dksX14_tryOrder_6 : cX14_tryOrder.data.toList.drop 140 = dktX14_tryOrder_6 := dk_seg dksX14_tryOrder_5 23 rfl rfl
theorem dX14_tryOrder_0 : decode cX14_tryOrder 0 = .ok (.aload_n 0, 1) := dk_42 (dk_at dksX14_tryOrder_0 0 rfl rfl)
theorem dX14_tryOrder_1 : decode cX14_tryOrder 1 = .ok (.getfield 386, 3) := dk_180 1 130 (dk_at dksX14_tryOrder_0 1 rfl rfl)
theorem dX14_tryOrder_4 : decode cX14_tryOrder 4 = .ok (.iconst (-1), 1) := dk_2 (dk_at dksX14_tryOrder_0 4 rfl rfl)
theorem dX14_tryOrder_5 : decode cX14_tryOrder 5 = .ok (.if_icmp .eq 12, 3) := dk_159 0 12 (dk_at dksX14_tryOrder_0 5 rfl rfl)
theorem dX14_tryOrder_8 : decode cX14_tryOrder 8 = .ok (.iload_n 3, 1) := dk_29 (dk_at dksX14_tryOrder_0 8 rfl rfl)
theorem dX14_tryOrder_9 : decode cX14_tryOrder 9 = .ok (.aload_n 0, 1) := dk_42 (dk_at dksX14_tryOrder_0 9 rfl rfl)
theorem dX14_tryOrder_10 : decode cX14_tryOrder 10 = .ok (.getfield 386, 3) := dk_180 1 130 (dk_at dksX14_tryOrder_0 10 rfl rfl)
theorem dX14_tryOrder_13 : decode cX14_tryOrder 13 = .ok (.if_icmp .lt 4, 3) := dk_161 0 4 (dk_at dksX14_tryOrder_0 13 rfl rfl)
theorem dX14_tryOrder_16 : decode cX14_tryOrder 16 = .ok (.return_, 1) := dk_177 (dk_at dksX14_tryOrder_0 16 rfl rfl)
theorem dX14_tryOrder_17 : decode cX14_tryOrder 17 = .ok (.iload_n 1, 1) := dk_27 (dk_at dksX14_tryOrder_0 17 rfl rfl)
theorem dX14_tryOrder_18 : decode cX14_tryOrder 18 = .ok (.aload_n 0, 1) := dk_42 (dk_at dksX14_tryOrder_0 18 rfl rfl)
theorem dX14_tryOrder_19 : decode cX14_tryOrder 19 = .ok (.getfield 389, 3) := dk_180 1 133 (dk_at dksX14_tryOrder_0 19 rfl rfl)
theorem dX14_tryOrder_22 : decode cX14_tryOrder 22 = .ok (.if_icmp .ne 38, 3) := dk_160 0 38 (dk_at dksX14_tryOrder_1 0 rfl rfl)
theorem dX14_tryOrder_25 : decode cX14_tryOrder 25 = .ok (.aload_n 0, 1) := dk_42 (dk_at dksX14_tryOrder_1 3 rfl rfl)
theorem dX14_tryOrder_26 : decode cX14_tryOrder 26 = .ok (.iload_n 3, 1) := dk_29 (dk_at dksX14_tryOrder_1 4 rfl rfl)
theorem dX14_tryOrder_27 : decode cX14_tryOrder 27 = .ok (.putfield 386, 3) := dk_181 1 130 (dk_at dksX14_tryOrder_1 5 rfl rfl)
theorem dX14_tryOrder_30 : decode cX14_tryOrder 30 = .ok (.iconst 0, 1) := dk_3 (dk_at dksX14_tryOrder_1 8 rfl rfl)
theorem dX14_tryOrder_31 : decode cX14_tryOrder 31 = .ok (.istore 4, 2) := dk_54 4 (dk_at dksX14_tryOrder_1 9 rfl rfl)
theorem dX14_tryOrder_33 : decode cX14_tryOrder 33 = .ok (.iload 4, 2) := dk_21 4 (dk_at dksX14_tryOrder_1 11 rfl rfl)
theorem dX14_tryOrder_35 : decode cX14_tryOrder 35 = .ok (.iload_n 1, 1) := dk_27 (dk_at dksX14_tryOrder_1 13 rfl rfl)
theorem dX14_tryOrder_36 : decode cX14_tryOrder 36 = .ok (.if_icmp .ge 23, 3) := dk_162 0 23 (dk_at dksX14_tryOrder_1 14 rfl rfl)
theorem dX14_tryOrder_39 : decode cX14_tryOrder 39 = .ok (.aload_n 0, 1) := dk_42 (dk_at dksX14_tryOrder_1 17 rfl rfl)
theorem dX14_tryOrder_40 : decode cX14_tryOrder 40 = .ok (.getfield 78, 3) := dk_180 0 78 (dk_at dksX14_tryOrder_1 18 rfl rfl)
theorem dX14_tryOrder_43 : decode cX14_tryOrder 43 = .ok (.iload 4, 2) := dk_21 4 (dk_at dksX14_tryOrder_1 21 rfl rfl)
theorem dX14_tryOrder_45 : decode cX14_tryOrder 45 = .ok (.aload_n 0, 1) := dk_42 (dk_at dksX14_tryOrder_1 23 rfl rfl)
theorem dX14_tryOrder_46 : decode cX14_tryOrder 46 = .ok (.getfield 72, 3) := dk_180 0 72 (dk_at dksX14_tryOrder_2 0 rfl rfl)
theorem dX14_tryOrder_49 : decode cX14_tryOrder 49 = .ok (.iload 4, 2) := dk_21 4 (dk_at dksX14_tryOrder_2 3 rfl rfl)
theorem dX14_tryOrder_51 : decode cX14_tryOrder 51 = .ok (.iaload, 1) := dk_46 (dk_at dksX14_tryOrder_2 5 rfl rfl)
theorem dX14_tryOrder_52 : decode cX14_tryOrder 52 = .ok (.iastore, 1) := dk_79 (dk_at dksX14_tryOrder_2 6 rfl rfl)
theorem dX14_tryOrder_53 : decode cX14_tryOrder 53 = .ok (.iinc 4 1, 3) := dk_132 4 1 (dk_at dksX14_tryOrder_2 7 rfl rfl)
theorem dX14_tryOrder_56 : decode cX14_tryOrder 56 = .ok (.goto (-23), 3) := dk_167 255 233 (dk_at dksX14_tryOrder_2 10 rfl rfl)
theorem dX14_tryOrder_59 : decode cX14_tryOrder 59 = .ok (.return_, 1) := dk_177 (dk_at dksX14_tryOrder_2 13 rfl rfl)
theorem dX14_tryOrder_60 : decode cX14_tryOrder 60 = .ok (.iconst 0, 1) := dk_3 (dk_at dksX14_tryOrder_2 14 rfl rfl)
theorem dX14_tryOrder_61 : decode cX14_tryOrder 61 = .ok (.istore 4, 2) := dk_54 4 (dk_at dksX14_tryOrder_2 15 rfl rfl)
theorem dX14_tryOrder_63 : decode cX14_tryOrder 63 = .ok (.iload 4, 2) := dk_21 4 (dk_at dksX14_tryOrder_2 17 rfl rfl)
theorem dX14_tryOrder_65 : decode cX14_tryOrder 65 = .ok (.aload_n 0, 1) := dk_42 (dk_at dksX14_tryOrder_2 19 rfl rfl)
theorem dX14_tryOrder_66 : decode cX14_tryOrder 66 = .ok (.getfield 389, 3) := dk_180 1 133 (dk_at dksX14_tryOrder_2 20 rfl rfl)
theorem dX14_tryOrder_69 : decode cX14_tryOrder 69 = .ok (.if_icmp .ge 77, 3) := dk_162 0 77 (dk_at dksX14_tryOrder_3 0 rfl rfl)
theorem dX14_tryOrder_72 : decode cX14_tryOrder 72 = .ok (.iload_n 2, 1) := dk_28 (dk_at dksX14_tryOrder_3 3 rfl rfl)
theorem dX14_tryOrder_73 : decode cX14_tryOrder 73 = .ok (.iload 4, 2) := dk_21 4 (dk_at dksX14_tryOrder_3 4 rfl rfl)
theorem dX14_tryOrder_75 : decode cX14_tryOrder 75 = .ok (.invokestatic 258, 3) := dk_184 1 2 (dk_at dksX14_tryOrder_3 6 rfl rfl)
theorem dX14_tryOrder_78 : decode cX14_tryOrder 78 = .ok (.ifCond .eq 6, 3) := dk_153 0 6 (dk_at dksX14_tryOrder_3 9 rfl rfl)
theorem dX14_tryOrder_81 : decode cX14_tryOrder 81 = .ok (.goto 59, 3) := dk_167 0 59 (dk_at dksX14_tryOrder_3 12 rfl rfl)
theorem dX14_tryOrder_84 : decode cX14_tryOrder 84 = .ok (.aload_n 0, 1) := dk_42 (dk_at dksX14_tryOrder_3 15 rfl rfl)
theorem dX14_tryOrder_85 : decode cX14_tryOrder 85 = .ok (.getfield 72, 3) := dk_180 0 72 (dk_at dksX14_tryOrder_3 16 rfl rfl)
theorem dX14_tryOrder_88 : decode cX14_tryOrder 88 = .ok (.iload_n 1, 1) := dk_27 (dk_at dksX14_tryOrder_3 19 rfl rfl)
theorem dX14_tryOrder_89 : decode cX14_tryOrder 89 = .ok (.aload_n 0, 1) := dk_42 (dk_at dksX14_tryOrder_3 20 rfl rfl)
theorem dX14_tryOrder_90 : decode cX14_tryOrder 90 = .ok (.getfield 75, 3) := dk_180 0 75 (dk_at dksX14_tryOrder_3 21 rfl rfl)
theorem dX14_tryOrder_93 : decode cX14_tryOrder 93 = .ok (.iload 4, 2) := dk_21 4 (dk_at dksX14_tryOrder_4 0 rfl rfl)
theorem dX14_tryOrder_95 : decode cX14_tryOrder 95 = .ok (.iaload, 1) := dk_46 (dk_at dksX14_tryOrder_4 2 rfl rfl)
theorem dX14_tryOrder_96 : decode cX14_tryOrder 96 = .ok (.iastore, 1) := dk_79 (dk_at dksX14_tryOrder_4 3 rfl rfl)
theorem dX14_tryOrder_97 : decode cX14_tryOrder 97 = .ok (.aload_n 0, 1) := dk_42 (dk_at dksX14_tryOrder_4 4 rfl rfl)
theorem dX14_tryOrder_98 : decode cX14_tryOrder 98 = .ok (.iload_n 1, 1) := dk_27 (dk_at dksX14_tryOrder_4 5 rfl rfl)
theorem dX14_tryOrder_99 : decode cX14_tryOrder 99 = .ok (.aload_n 0, 1) := dk_42 (dk_at dksX14_tryOrder_4 6 rfl rfl)
theorem dX14_tryOrder_100 : decode cX14_tryOrder 100 = .ok (.getfield 389, 3) := dk_180 1 133 (dk_at dksX14_tryOrder_4 7 rfl rfl)
theorem dX14_tryOrder_103 : decode cX14_tryOrder 103 = .ok (.aload_n 0, 1) := dk_42 (dk_at dksX14_tryOrder_4 10 rfl rfl)
theorem dX14_tryOrder_104 : decode cX14_tryOrder 104 = .ok (.getfield 75, 3) := dk_180 0 75 (dk_at dksX14_tryOrder_4 11 rfl rfl)
theorem dX14_tryOrder_107 : decode cX14_tryOrder 107 = .ok (.iload 4, 2) := dk_21 4 (dk_at dksX14_tryOrder_4 14 rfl rfl)
theorem dX14_tryOrder_109 : decode cX14_tryOrder 109 = .ok (.iaload, 1) := dk_46 (dk_at dksX14_tryOrder_4 16 rfl rfl)
theorem dX14_tryOrder_110 : decode cX14_tryOrder 110 = .ok (.invokevirtual 347, 3) := dk_182 1 91 (dk_at dksX14_tryOrder_4 17 rfl rfl)
theorem dX14_tryOrder_113 : decode cX14_tryOrder 113 = .ok (.istore 5, 2) := dk_54 5 (dk_at dksX14_tryOrder_4 20 rfl rfl)
theorem dX14_tryOrder_115 : decode cX14_tryOrder 115 = .ok (.aload_n 0, 1) := dk_42 (dk_at dksX14_tryOrder_4 22 rfl rfl)
theorem dX14_tryOrder_116 : decode cX14_tryOrder 116 = .ok (.iload_n 1, 1) := dk_27 (dk_at dksX14_tryOrder_4 23 rfl rfl)
theorem dX14_tryOrder_117 : decode cX14_tryOrder 117 = .ok (.iconst 1, 1) := dk_4 (dk_at dksX14_tryOrder_5 0 rfl rfl)
theorem dX14_tryOrder_118 : decode cX14_tryOrder 118 = .ok (.iadd, 1) := dk_96 (dk_at dksX14_tryOrder_5 1 rfl rfl)
theorem dX14_tryOrder_119 : decode cX14_tryOrder 119 = .ok (.iload_n 2, 1) := dk_28 (dk_at dksX14_tryOrder_5 2 rfl rfl)
theorem dX14_tryOrder_120 : decode cX14_tryOrder 120 = .ok (.iconst 1, 1) := dk_4 (dk_at dksX14_tryOrder_5 3 rfl rfl)
theorem dX14_tryOrder_121 : decode cX14_tryOrder 121 = .ok (.iload 4, 2) := dk_21 4 (dk_at dksX14_tryOrder_5 4 rfl rfl)
theorem dX14_tryOrder_123 : decode cX14_tryOrder 123 = .ok (.ishl, 1) := dk_120 (dk_at dksX14_tryOrder_5 6 rfl rfl)
theorem dX14_tryOrder_124 : decode cX14_tryOrder 124 = .ok (.ior, 1) := dk_128 (dk_at dksX14_tryOrder_5 7 rfl rfl)
theorem dX14_tryOrder_125 : decode cX14_tryOrder 125 = .ok (.iload 5, 2) := dk_21 5 (dk_at dksX14_tryOrder_5 8 rfl rfl)
theorem dX14_tryOrder_127 : decode cX14_tryOrder 127 = .ok (.iload_n 3, 1) := dk_29 (dk_at dksX14_tryOrder_5 10 rfl rfl)
theorem dX14_tryOrder_128 : decode cX14_tryOrder 128 = .ok (.if_icmp .le 8, 3) := dk_164 0 8 (dk_at dksX14_tryOrder_5 11 rfl rfl)
theorem dX14_tryOrder_131 : decode cX14_tryOrder 131 = .ok (.iload 5, 2) := dk_21 5 (dk_at dksX14_tryOrder_5 14 rfl rfl)
theorem dX14_tryOrder_133 : decode cX14_tryOrder 133 = .ok (.goto 4, 3) := dk_167 0 4 (dk_at dksX14_tryOrder_5 16 rfl rfl)
theorem dX14_tryOrder_136 : decode cX14_tryOrder 136 = .ok (.iload_n 3, 1) := dk_29 (dk_at dksX14_tryOrder_5 19 rfl rfl)
theorem dX14_tryOrder_137 : decode cX14_tryOrder 137 = .ok (.invokevirtual 392, 3) := dk_182 1 136 (dk_at dksX14_tryOrder_5 20 rfl rfl)
theorem dX14_tryOrder_140 : decode cX14_tryOrder 140 = .ok (.iinc 4 1, 3) := dk_132 4 1 (dk_at dksX14_tryOrder_6 0 rfl rfl)
theorem dX14_tryOrder_143 : decode cX14_tryOrder 143 = .ok (.goto (-80), 3) := dk_167 255 176 (dk_at dksX14_tryOrder_6 3 rfl rfl)
theorem dX14_tryOrder_146 : decode cX14_tryOrder 146 = .ok (.return_, 1) := dk_177 (dk_at dksX14_tryOrder_6 6 rfl rfl)
abbrev cX14_bestAt : ByteArray := prog_23_method_62_code
def yX14_bestAt : MethodName := ⟨RX14, "bestAt", "(I)I"⟩
def dkwX14_bestAt_1 : List UInt8 := [167, 0, 4, 2, 172]
abbrev dktX14_bestAt_1 : List UInt8 := dkwX14_bestAt_1 ++ []
def dkwX14_bestAt_0 : List UInt8 := [42, 3, 181, 0, 148, 27, 155, 0, 20, 27, 42, 180, 1, 140, 162, 0, 12, 42, 180, 0, 81, 27, 46]
abbrev dktX14_bestAt_0 : List UInt8 := dkwX14_bestAt_0 ++ dktX14_bestAt_1
theorem dksX14_bestAt_0 : cX14_bestAt.data.toList.drop 0 = dktX14_bestAt_0 := by decide +kernel
theorem dksX14_bestAt_1 : cX14_bestAt.data.toList.drop 23 = dktX14_bestAt_1 := dk_seg dksX14_bestAt_0 23 rfl rfl
theorem dX14_bestAt_0 : decode cX14_bestAt 0 = .ok (.aload_n 0, 1) := dk_42 (dk_at dksX14_bestAt_0 0 rfl rfl)
theorem dX14_bestAt_1 : decode cX14_bestAt 1 = .ok (.iconst 0, 1) := dk_3 (dk_at dksX14_bestAt_0 1 rfl rfl)
theorem dX14_bestAt_2 : decode cX14_bestAt 2 = .ok (.putfield 148, 3) := dk_181 0 148 (dk_at dksX14_bestAt_0 2 rfl rfl)
theorem dX14_bestAt_5 : decode cX14_bestAt 5 = .ok (.iload_n 1, 1) := dk_27 (dk_at dksX14_bestAt_0 5 rfl rfl)
theorem dX14_bestAt_6 : decode cX14_bestAt 6 = .ok (.ifCond .lt 20, 3) := dk_155 0 20 (dk_at dksX14_bestAt_0 6 rfl rfl)
theorem dX14_bestAt_9 : decode cX14_bestAt 9 = .ok (.iload_n 1, 1) := dk_27 (dk_at dksX14_bestAt_0 9 rfl rfl)
theorem dX14_bestAt_10 : decode cX14_bestAt 10 = .ok (.aload_n 0, 1) := dk_42 (dk_at dksX14_bestAt_0 10 rfl rfl)
theorem dX14_bestAt_11 : decode cX14_bestAt 11 = .ok (.getfield 396, 3) := dk_180 1 140 (dk_at dksX14_bestAt_0 11 rfl rfl)
theorem dX14_bestAt_14 : decode cX14_bestAt 14 = .ok (.if_icmp .ge 12, 3) := dk_162 0 12 (dk_at dksX14_bestAt_0 14 rfl rfl)
theorem dX14_bestAt_17 : decode cX14_bestAt 17 = .ok (.aload_n 0, 1) := dk_42 (dk_at dksX14_bestAt_0 17 rfl rfl)
theorem dX14_bestAt_18 : decode cX14_bestAt 18 = .ok (.getfield 81, 3) := dk_180 0 81 (dk_at dksX14_bestAt_0 18 rfl rfl)
theorem dX14_bestAt_21 : decode cX14_bestAt 21 = .ok (.iload_n 1, 1) := dk_27 (dk_at dksX14_bestAt_0 21 rfl rfl)
theorem dX14_bestAt_22 : decode cX14_bestAt 22 = .ok (.iaload, 1) := dk_46 (dk_at dksX14_bestAt_0 22 rfl rfl)
theorem dX14_bestAt_23 : decode cX14_bestAt 23 = .ok (.goto 4, 3) := dk_167 0 4 (dk_at dksX14_bestAt_1 0 rfl rfl)
theorem dX14_bestAt_26 : decode cX14_bestAt 26 = .ok (.iconst (-1), 1) := dk_2 (dk_at dksX14_bestAt_1 3 rfl rfl)
theorem dX14_bestAt_27 : decode cX14_bestAt 27 = .ok (.ireturn, 1) := dk_172 (dk_at dksX14_bestAt_1 4 rfl rfl)
abbrev cX14_running : ByteArray := prog_23_method_63_code
def yX14_running : MethodName := ⟨RX14, "running", "(I)I"⟩
def dkwX14_running_1 : List UInt8 := [154, 0, 5, 2, 172, 42, 5, 42, 180, 1, 48, 42, 180, 0, 13, 8, 46, 27, 182, 1, 120, 172]
abbrev dktX14_running_1 : List UInt8 := dkwX14_running_1 ++ []
def dkwX14_running_0 : List UInt8 := [42, 3, 181, 0, 148, 42, 4, 16, 12, 4, 182, 1, 116, 153, 0, 14, 27, 3, 17, 14, 16, 184, 0, 219]
abbrev dktX14_running_0 : List UInt8 := dkwX14_running_0 ++ dktX14_running_1
theorem dksX14_running_0 : cX14_running.data.toList.drop 0 = dktX14_running_0 := by decide +kernel
theorem dksX14_running_1 : cX14_running.data.toList.drop 24 = dktX14_running_1 := dk_seg dksX14_running_0 24 rfl rfl
theorem dX14_running_0 : decode cX14_running 0 = .ok (.aload_n 0, 1) := dk_42 (dk_at dksX14_running_0 0 rfl rfl)
theorem dX14_running_1 : decode cX14_running 1 = .ok (.iconst 0, 1) := dk_3 (dk_at dksX14_running_0 1 rfl rfl)
theorem dX14_running_2 : decode cX14_running 2 = .ok (.putfield 148, 3) := dk_181 0 148 (dk_at dksX14_running_0 2 rfl rfl)
theorem dX14_running_5 : decode cX14_running 5 = .ok (.aload_n 0, 1) := dk_42 (dk_at dksX14_running_0 5 rfl rfl)
theorem dX14_running_6 : decode cX14_running 6 = .ok (.iconst 1, 1) := dk_4 (dk_at dksX14_running_0 6 rfl rfl)
theorem dX14_running_7 : decode cX14_running 7 = .ok (.bipush 12, 2) := dk_16 12 (dk_at dksX14_running_0 7 rfl rfl)
theorem dX14_running_9 : decode cX14_running 9 = .ok (.iconst 1, 1) := dk_4 (dk_at dksX14_running_0 9 rfl rfl)
theorem dX14_running_10 : decode cX14_running 10 = .ok (.invokevirtual 372, 3) := dk_182 1 116 (dk_at dksX14_running_0 10 rfl rfl)
theorem dX14_running_13 : decode cX14_running 13 = .ok (.ifCond .eq 14, 3) := dk_153 0 14 (dk_at dksX14_running_0 13 rfl rfl)
theorem dX14_running_16 : decode cX14_running 16 = .ok (.iload_n 1, 1) := dk_27 (dk_at dksX14_running_0 16 rfl rfl)
theorem dX14_running_17 : decode cX14_running 17 = .ok (.iconst 0, 1) := dk_3 (dk_at dksX14_running_0 17 rfl rfl)
theorem dX14_running_18 : decode cX14_running 18 = .ok (.sipush 3600, 3) := dk_17 14 16 (dk_at dksX14_running_0 18 rfl rfl)
theorem dX14_running_21 : decode cX14_running 21 = .ok (.invokestatic 219, 3) := dk_184 0 219 (dk_at dksX14_running_0 21 rfl rfl)
theorem dX14_running_24 : decode cX14_running 24 = .ok (.ifCond .ne 5, 3) := dk_154 0 5 (dk_at dksX14_running_1 0 rfl rfl)
theorem dX14_running_27 : decode cX14_running 27 = .ok (.iconst (-1), 1) := dk_2 (dk_at dksX14_running_1 3 rfl rfl)
theorem dX14_running_28 : decode cX14_running 28 = .ok (.ireturn, 1) := dk_172 (dk_at dksX14_running_1 4 rfl rfl)
theorem dX14_running_29 : decode cX14_running 29 = .ok (.aload_n 0, 1) := dk_42 (dk_at dksX14_running_1 5 rfl rfl)
theorem dX14_running_30 : decode cX14_running 30 = .ok (.iconst 2, 1) := dk_5 (dk_at dksX14_running_1 6 rfl rfl)
theorem dX14_running_31 : decode cX14_running 31 = .ok (.aload_n 0, 1) := dk_42 (dk_at dksX14_running_1 7 rfl rfl)
theorem dX14_running_32 : decode cX14_running 32 = .ok (.getfield 304, 3) := dk_180 1 48 (dk_at dksX14_running_1 8 rfl rfl)
theorem dX14_running_35 : decode cX14_running 35 = .ok (.aload_n 0, 1) := dk_42 (dk_at dksX14_running_1 11 rfl rfl)
theorem dX14_running_36 : decode cX14_running 36 = .ok (.getfield 13, 3) := dk_180 0 13 (dk_at dksX14_running_1 12 rfl rfl)
theorem dX14_running_39 : decode cX14_running 39 = .ok (.iconst 5, 1) := dk_8 (dk_at dksX14_running_1 15 rfl rfl)
theorem dX14_running_40 : decode cX14_running 40 = .ok (.iaload, 1) := dk_46 (dk_at dksX14_running_1 16 rfl rfl)
theorem dX14_running_41 : decode cX14_running 41 = .ok (.iload_n 1, 1) := dk_27 (dk_at dksX14_running_1 17 rfl rfl)
theorem dX14_running_42 : decode cX14_running 42 = .ok (.invokevirtual 376, 3) := dk_182 1 120 (dk_at dksX14_running_1 18 rfl rfl)
theorem dX14_running_45 : decode cX14_running 45 = .ok (.ireturn, 1) := dk_172 (dk_at dksX14_running_1 21 rfl rfl)
abbrev cX14_line : ByteArray := prog_23_method_64_code
def yX14_line : MethodName := ⟨RX14, "line", "(I)I"⟩
def dkwX14_line_3 : List UInt8 := [28, 42, 180, 0, 13, 8, 46, 27, 182, 1, 120, 164, 0, 5, 28, 172, 132, 2, 1, 167, 255, 212, 2, 172]
abbrev dktX14_line_3 : List UInt8 := dkwX14_line_3 ++ []
def dkwX14_line_2 : List UInt8 := [42, 182, 1, 32, 163, 0, 42, 42, 4, 28, 42, 180, 0, 13, 8, 46, 27, 182, 1, 120, 62, 29, 42, 5]
abbrev dktX14_line_2 : List UInt8 := dkwX14_line_2 ++ dktX14_line_3
def dkwX14_line_1 : List UInt8 := [28, 42, 182, 1, 32, 162, 0, 16, 42, 180, 0, 39, 28, 28, 79, 132, 2, 1, 167, 255, 238, 5, 61, 28]
abbrev dktX14_line_1 : List UInt8 := dkwX14_line_1 ++ dktX14_line_2
def dkwX14_line_0 : List UInt8 := [42, 3, 181, 0, 148, 42, 182, 0, 232, 27, 3, 17, 14, 16, 184, 0, 219, 154, 0, 5, 2, 172, 3, 61]
abbrev dktX14_line_0 : List UInt8 := dkwX14_line_0 ++ dktX14_line_1
theorem dksX14_line_0 : cX14_line.data.toList.drop 0 = dktX14_line_0 := by decide +kernel
theorem dksX14_line_1 : cX14_line.data.toList.drop 24 = dktX14_line_1 := dk_seg dksX14_line_0 24 rfl rfl
theorem dksX14_line_2 : cX14_line.data.toList.drop 48 = dktX14_line_2 := dk_seg dksX14_line_1 24 rfl rfl
theorem dksX14_line_3 : cX14_line.data.toList.drop 72 = dktX14_line_3 := dk_seg dksX14_line_2 24 rfl rfl
theorem dX14_line_0 : decode cX14_line 0 = .ok (.aload_n 0, 1) := dk_42 (dk_at dksX14_line_0 0 rfl rfl)
theorem dX14_line_1 : decode cX14_line 1 = .ok (.iconst 0, 1) := dk_3 (dk_at dksX14_line_0 1 rfl rfl)
theorem dX14_line_2 : decode cX14_line 2 = .ok (.putfield 148, 3) := dk_181 0 148 (dk_at dksX14_line_0 2 rfl rfl)
theorem dX14_line_5 : decode cX14_line 5 = .ok (.aload_n 0, 1) := dk_42 (dk_at dksX14_line_0 5 rfl rfl)
theorem dX14_line_6 : decode cX14_line 6 = .ok (.invokevirtual 232, 3) := dk_182 0 232 (dk_at dksX14_line_0 6 rfl rfl)
theorem dX14_line_9 : decode cX14_line 9 = .ok (.iload_n 1, 1) := dk_27 (dk_at dksX14_line_0 9 rfl rfl)
theorem dX14_line_10 : decode cX14_line 10 = .ok (.iconst 0, 1) := dk_3 (dk_at dksX14_line_0 10 rfl rfl)
theorem dX14_line_11 : decode cX14_line 11 = .ok (.sipush 3600, 3) := dk_17 14 16 (dk_at dksX14_line_0 11 rfl rfl)
theorem dX14_line_14 : decode cX14_line 14 = .ok (.invokestatic 219, 3) := dk_184 0 219 (dk_at dksX14_line_0 14 rfl rfl)
theorem dX14_line_17 : decode cX14_line 17 = .ok (.ifCond .ne 5, 3) := dk_154 0 5 (dk_at dksX14_line_0 17 rfl rfl)
theorem dX14_line_20 : decode cX14_line 20 = .ok (.iconst (-1), 1) := dk_2 (dk_at dksX14_line_0 20 rfl rfl)
theorem dX14_line_21 : decode cX14_line 21 = .ok (.ireturn, 1) := dk_172 (dk_at dksX14_line_0 21 rfl rfl)
theorem dX14_line_22 : decode cX14_line 22 = .ok (.iconst 0, 1) := dk_3 (dk_at dksX14_line_0 22 rfl rfl)
theorem dX14_line_23 : decode cX14_line 23 = .ok (.istore_n 2, 1) := dk_61 (dk_at dksX14_line_0 23 rfl rfl)
theorem dX14_line_24 : decode cX14_line 24 = .ok (.iload_n 2, 1) := dk_28 (dk_at dksX14_line_1 0 rfl rfl)
theorem dX14_line_25 : decode cX14_line 25 = .ok (.aload_n 0, 1) := dk_42 (dk_at dksX14_line_1 1 rfl rfl)
theorem dX14_line_26 : decode cX14_line 26 = .ok (.invokevirtual 288, 3) := dk_182 1 32 (dk_at dksX14_line_1 2 rfl rfl)
theorem dX14_line_29 : decode cX14_line 29 = .ok (.if_icmp .ge 16, 3) := dk_162 0 16 (dk_at dksX14_line_1 5 rfl rfl)
theorem dX14_line_32 : decode cX14_line 32 = .ok (.aload_n 0, 1) := dk_42 (dk_at dksX14_line_1 8 rfl rfl)
theorem dX14_line_33 : decode cX14_line 33 = .ok (.getfield 39, 3) := dk_180 0 39 (dk_at dksX14_line_1 9 rfl rfl)
theorem dX14_line_36 : decode cX14_line 36 = .ok (.iload_n 2, 1) := dk_28 (dk_at dksX14_line_1 12 rfl rfl)
theorem dX14_line_37 : decode cX14_line 37 = .ok (.iload_n 2, 1) := dk_28 (dk_at dksX14_line_1 13 rfl rfl)
theorem dX14_line_38 : decode cX14_line 38 = .ok (.iastore, 1) := dk_79 (dk_at dksX14_line_1 14 rfl rfl)
theorem dX14_line_39 : decode cX14_line 39 = .ok (.iinc 2 1, 3) := dk_132 2 1 (dk_at dksX14_line_1 15 rfl rfl)
theorem dX14_line_42 : decode cX14_line 42 = .ok (.goto (-18), 3) := dk_167 255 238 (dk_at dksX14_line_1 18 rfl rfl)
theorem dX14_line_45 : decode cX14_line 45 = .ok (.iconst 2, 1) := dk_5 (dk_at dksX14_line_1 21 rfl rfl)
theorem dX14_line_46 : decode cX14_line 46 = .ok (.istore_n 2, 1) := dk_61 (dk_at dksX14_line_1 22 rfl rfl)
theorem dX14_line_47 : decode cX14_line 47 = .ok (.iload_n 2, 1) := dk_28 (dk_at dksX14_line_1 23 rfl rfl)
theorem dX14_line_48 : decode cX14_line 48 = .ok (.aload_n 0, 1) := dk_42 (dk_at dksX14_line_2 0 rfl rfl)
theorem dX14_line_49 : decode cX14_line 49 = .ok (.invokevirtual 288, 3) := dk_182 1 32 (dk_at dksX14_line_2 1 rfl rfl)
theorem dX14_line_52 : decode cX14_line 52 = .ok (.if_icmp .gt 42, 3) := dk_163 0 42 (dk_at dksX14_line_2 4 rfl rfl)
theorem dX14_line_55 : decode cX14_line 55 = .ok (.aload_n 0, 1) := dk_42 (dk_at dksX14_line_2 7 rfl rfl)
theorem dX14_line_56 : decode cX14_line 56 = .ok (.iconst 1, 1) := dk_4 (dk_at dksX14_line_2 8 rfl rfl)
theorem dX14_line_57 : decode cX14_line 57 = .ok (.iload_n 2, 1) := dk_28 (dk_at dksX14_line_2 9 rfl rfl)
theorem dX14_line_58 : decode cX14_line 58 = .ok (.aload_n 0, 1) := dk_42 (dk_at dksX14_line_2 10 rfl rfl)
theorem dX14_line_59 : decode cX14_line 59 = .ok (.getfield 13, 3) := dk_180 0 13 (dk_at dksX14_line_2 11 rfl rfl)
theorem dX14_line_62 : decode cX14_line 62 = .ok (.iconst 5, 1) := dk_8 (dk_at dksX14_line_2 14 rfl rfl)
theorem dX14_line_63 : decode cX14_line 63 = .ok (.iaload, 1) := dk_46 (dk_at dksX14_line_2 15 rfl rfl)
theorem dX14_line_64 : decode cX14_line 64 = .ok (.iload_n 1, 1) := dk_27 (dk_at dksX14_line_2 16 rfl rfl)
theorem dX14_line_65 : decode cX14_line 65 = .ok (.invokevirtual 376, 3) := dk_182 1 120 (dk_at dksX14_line_2 17 rfl rfl)
theorem dX14_line_68 : decode cX14_line 68 = .ok (.istore_n 3, 1) := dk_62 (dk_at dksX14_line_2 20 rfl rfl)
theorem dX14_line_69 : decode cX14_line 69 = .ok (.iload_n 3, 1) := dk_29 (dk_at dksX14_line_2 21 rfl rfl)
theorem dX14_line_70 : decode cX14_line 70 = .ok (.aload_n 0, 1) := dk_42 (dk_at dksX14_line_2 22 rfl rfl)
theorem dX14_line_71 : decode cX14_line 71 = .ok (.iconst 2, 1) := dk_5 (dk_at dksX14_line_2 23 rfl rfl)
theorem dX14_line_72 : decode cX14_line 72 = .ok (.iload_n 2, 1) := dk_28 (dk_at dksX14_line_3 0 rfl rfl)
theorem dX14_line_73 : decode cX14_line 73 = .ok (.aload_n 0, 1) := dk_42 (dk_at dksX14_line_3 1 rfl rfl)
theorem dX14_line_74 : decode cX14_line 74 = .ok (.getfield 13, 3) := dk_180 0 13 (dk_at dksX14_line_3 2 rfl rfl)
theorem dX14_line_77 : decode cX14_line 77 = .ok (.iconst 5, 1) := dk_8 (dk_at dksX14_line_3 5 rfl rfl)
theorem dX14_line_78 : decode cX14_line 78 = .ok (.iaload, 1) := dk_46 (dk_at dksX14_line_3 6 rfl rfl)
theorem dX14_line_79 : decode cX14_line 79 = .ok (.iload_n 1, 1) := dk_27 (dk_at dksX14_line_3 7 rfl rfl)
theorem dX14_line_80 : decode cX14_line 80 = .ok (.invokevirtual 376, 3) := dk_182 1 120 (dk_at dksX14_line_3 8 rfl rfl)
theorem dX14_line_83 : decode cX14_line 83 = .ok (.if_icmp .le 5, 3) := dk_164 0 5 (dk_at dksX14_line_3 11 rfl rfl)
theorem dX14_line_86 : decode cX14_line 86 = .ok (.iload_n 2, 1) := dk_28 (dk_at dksX14_line_3 14 rfl rfl)
theorem dX14_line_87 : decode cX14_line 87 = .ok (.ireturn, 1) := dk_172 (dk_at dksX14_line_3 15 rfl rfl)
theorem dX14_line_88 : decode cX14_line 88 = .ok (.iinc 2 1, 3) := dk_132 2 1 (dk_at dksX14_line_3 16 rfl rfl)
theorem dX14_line_91 : decode cX14_line 91 = .ok (.goto (-44), 3) := dk_167 255 212 (dk_at dksX14_line_3 19 rfl rfl)
theorem dX14_line_94 : decode cX14_line 94 = .ok (.iconst (-1), 1) := dk_2 (dk_at dksX14_line_3 22 rfl rfl)
theorem dX14_line_95 : decode cX14_line 95 = .ok (.ireturn, 1) := dk_172 (dk_at dksX14_line_3 23 rfl rfl)
abbrev cX14_cost : ByteArray := prog_23_method_65_code
def yX14_cost : MethodName := ⟨RX14, "cost", "(II)I"⟩
def dkwX14_cost_8 : List UInt8 := [28, 16, 60, 27, 104, 100, 182, 1, 120, 100, 172]
abbrev dktX14_cost_8 : List UInt8 := dkwX14_cost_8 ++ []
def dkwX14_cost_7 : List UInt8 := [182, 1, 120, 54, 6, 21, 5, 21, 6, 100, 42, 4, 29, 42, 180, 0, 13, 8, 46, 42, 180, 1, 69, 100]
abbrev dktX14_cost_7 : List UInt8 := dkwX14_cost_7 ++ dktX14_cost_8
def dkwX14_cost_6 : List UInt8 := [180, 0, 13, 8, 46, 28, 182, 1, 120, 54, 5, 42, 5, 29, 42, 180, 0, 13, 8, 46, 16, 60, 27, 104]
abbrev dktX14_cost_6 : List UInt8 := dkwX14_cost_6 ++ dktX14_cost_7
def dkwX14_cost_5 : List UInt8 := [21, 5, 46, 79, 132, 5, 1, 167, 255, 185, 42, 3, 181, 0, 148, 42, 182, 0, 235, 87, 42, 4, 29, 42]
abbrev dktX14_cost_5 : List UInt8 := dkwX14_cost_5 ++ dktX14_cost_6
def dkwX14_cost_4 : List UInt8 := [21, 4, 4, 42, 180, 0, 7, 21, 5, 46, 120, 128, 54, 4, 42, 180, 0, 39, 21, 5, 42, 180, 0, 7]
abbrev dktX14_cost_4 : List UInt8 := dkwX14_cost_4 ++ dktX14_cost_5
def dkwX14_cost_3 : List UInt8 := [162, 0, 18, 21, 4, 42, 180, 0, 7, 21, 5, 46, 184, 1, 2, 153, 0, 8, 42, 182, 1, 35, 172]
abbrev dktX14_cost_3 : List UInt8 := dkwX14_cost_3 ++ dktX14_cost_4
def dkwX14_cost_2 : List UInt8 := [172, 3, 54, 4, 3, 54, 5, 21, 5, 29, 162, 0, 71, 42, 180, 0, 7, 21, 5, 46, 42, 182, 1, 32]
abbrev dktX14_cost_2 : List UInt8 := dkwX14_cost_2 ++ dktX14_cost_3
def dkwX14_cost_1 : List UInt8 := [184, 0, 219, 153, 0, 17, 28, 16, 60, 27, 104, 17, 14, 16, 184, 0, 219, 154, 0, 8, 42, 182, 1, 35]
abbrev dktX14_cost_1 : List UInt8 := dkwX14_cost_1 ++ dktX14_cost_2
def dkwX14_cost_0 : List UInt8 := [42, 182, 0, 232, 42, 180, 0, 151, 62, 29, 5, 16, 12, 184, 0, 219, 153, 0, 27, 27, 3, 16, 60]
abbrev dktX14_cost_0 : List UInt8 := dkwX14_cost_0 ++ dktX14_cost_1
theorem dksX14_cost_0 : cX14_cost.data.toList.drop 0 = dktX14_cost_0 := by decide +kernel
theorem dksX14_cost_1 : cX14_cost.data.toList.drop 23 = dktX14_cost_1 := dk_seg dksX14_cost_0 23 rfl rfl
theorem dksX14_cost_2 : cX14_cost.data.toList.drop 47 = dktX14_cost_2 := dk_seg dksX14_cost_1 24 rfl rfl
theorem dksX14_cost_3 : cX14_cost.data.toList.drop 71 = dktX14_cost_3 := dk_seg dksX14_cost_2 24 rfl rfl
theorem dksX14_cost_4 : cX14_cost.data.toList.drop 94 = dktX14_cost_4 := dk_seg dksX14_cost_3 23 rfl rfl
theorem dksX14_cost_5 : cX14_cost.data.toList.drop 118 = dktX14_cost_5 := dk_seg dksX14_cost_4 24 rfl rfl
theorem dksX14_cost_6 : cX14_cost.data.toList.drop 142 = dktX14_cost_6 := dk_seg dksX14_cost_5 24 rfl rfl
theorem dksX14_cost_7 : cX14_cost.data.toList.drop 166 = dktX14_cost_7 := dk_seg dksX14_cost_6 24 rfl rfl
theorem dksX14_cost_8 : cX14_cost.data.toList.drop 190 = dktX14_cost_8 := dk_seg dksX14_cost_7 24 rfl rfl
theorem dX14_cost_0 : decode cX14_cost 0 = .ok (.aload_n 0, 1) := dk_42 (dk_at dksX14_cost_0 0 rfl rfl)
theorem dX14_cost_1 : decode cX14_cost 1 = .ok (.invokevirtual 232, 3) := dk_182 0 232 (dk_at dksX14_cost_0 1 rfl rfl)
theorem dX14_cost_4 : decode cX14_cost 4 = .ok (.aload_n 0, 1) := dk_42 (dk_at dksX14_cost_0 4 rfl rfl)
theorem dX14_cost_5 : decode cX14_cost 5 = .ok (.getfield 151, 3) := dk_180 0 151 (dk_at dksX14_cost_0 5 rfl rfl)
theorem dX14_cost_8 : decode cX14_cost 8 = .ok (.istore_n 3, 1) := dk_62 (dk_at dksX14_cost_0 8 rfl rfl)
theorem dX14_cost_9 : decode cX14_cost 9 = .ok (.iload_n 3, 1) := dk_29 (dk_at dksX14_cost_0 9 rfl rfl)
theorem dX14_cost_10 : decode cX14_cost 10 = .ok (.iconst 2, 1) := dk_5 (dk_at dksX14_cost_0 10 rfl rfl)
theorem dX14_cost_11 : decode cX14_cost 11 = .ok (.bipush 12, 2) := dk_16 12 (dk_at dksX14_cost_0 11 rfl rfl)
theorem dX14_cost_13 : decode cX14_cost 13 = .ok (.invokestatic 219, 3) := dk_184 0 219 (dk_at dksX14_cost_0 13 rfl rfl)
theorem dX14_cost_16 : decode cX14_cost 16 = .ok (.ifCond .eq 27, 3) := dk_153 0 27 (dk_at dksX14_cost_0 16 rfl rfl)
theorem dX14_cost_19 : decode cX14_cost 19 = .ok (.iload_n 1, 1) := dk_27 (dk_at dksX14_cost_0 19 rfl rfl)
theorem dX14_cost_20 : decode cX14_cost 20 = .ok (.iconst 0, 1) := dk_3 (dk_at dksX14_cost_0 20 rfl rfl)
theorem dX14_cost_21 : decode cX14_cost 21 = .ok (.bipush 60, 2) := dk_16 60 (dk_at dksX14_cost_0 21 rfl rfl)
theorem dX14_cost_23 : decode cX14_cost 23 = .ok (.invokestatic 219, 3) := dk_184 0 219 (dk_at dksX14_cost_1 0 rfl rfl)
theorem dX14_cost_26 : decode cX14_cost 26 = .ok (.ifCond .eq 17, 3) := dk_153 0 17 (dk_at dksX14_cost_1 3 rfl rfl)
theorem dX14_cost_29 : decode cX14_cost 29 = .ok (.iload_n 2, 1) := dk_28 (dk_at dksX14_cost_1 6 rfl rfl)
theorem dX14_cost_30 : decode cX14_cost 30 = .ok (.bipush 60, 2) := dk_16 60 (dk_at dksX14_cost_1 7 rfl rfl)
theorem dX14_cost_32 : decode cX14_cost 32 = .ok (.iload_n 1, 1) := dk_27 (dk_at dksX14_cost_1 9 rfl rfl)
theorem dX14_cost_33 : decode cX14_cost 33 = .ok (.imul, 1) := dk_104 (dk_at dksX14_cost_1 10 rfl rfl)
theorem dX14_cost_34 : decode cX14_cost 34 = .ok (.sipush 3600, 3) := dk_17 14 16 (dk_at dksX14_cost_1 11 rfl rfl)
theorem dX14_cost_37 : decode cX14_cost 37 = .ok (.invokestatic 219, 3) := dk_184 0 219 (dk_at dksX14_cost_1 14 rfl rfl)
theorem dX14_cost_40 : decode cX14_cost 40 = .ok (.ifCond .ne 8, 3) := dk_154 0 8 (dk_at dksX14_cost_1 17 rfl rfl)
theorem dX14_cost_43 : decode cX14_cost 43 = .ok (.aload_n 0, 1) := dk_42 (dk_at dksX14_cost_1 20 rfl rfl)
theorem dX14_cost_44 : decode cX14_cost 44 = .ok (.invokevirtual 291, 3) := dk_182 1 35 (dk_at dksX14_cost_1 21 rfl rfl)
theorem dX14_cost_47 : decode cX14_cost 47 = .ok (.ireturn, 1) := dk_172 (dk_at dksX14_cost_2 0 rfl rfl)
theorem dX14_cost_48 : decode cX14_cost 48 = .ok (.iconst 0, 1) := dk_3 (dk_at dksX14_cost_2 1 rfl rfl)
theorem dX14_cost_49 : decode cX14_cost 49 = .ok (.istore 4, 2) := dk_54 4 (dk_at dksX14_cost_2 2 rfl rfl)
theorem dX14_cost_51 : decode cX14_cost 51 = .ok (.iconst 0, 1) := dk_3 (dk_at dksX14_cost_2 4 rfl rfl)
theorem dX14_cost_52 : decode cX14_cost 52 = .ok (.istore 5, 2) := dk_54 5 (dk_at dksX14_cost_2 5 rfl rfl)
theorem dX14_cost_54 : decode cX14_cost 54 = .ok (.iload 5, 2) := dk_21 5 (dk_at dksX14_cost_2 7 rfl rfl)
theorem dX14_cost_56 : decode cX14_cost 56 = .ok (.iload_n 3, 1) := dk_29 (dk_at dksX14_cost_2 9 rfl rfl)
theorem dX14_cost_57 : decode cX14_cost 57 = .ok (.if_icmp .ge 71, 3) := dk_162 0 71 (dk_at dksX14_cost_2 10 rfl rfl)
theorem dX14_cost_60 : decode cX14_cost 60 = .ok (.aload_n 0, 1) := dk_42 (dk_at dksX14_cost_2 13 rfl rfl)
theorem dX14_cost_61 : decode cX14_cost 61 = .ok (.getfield 7, 3) := dk_180 0 7 (dk_at dksX14_cost_2 14 rfl rfl)
theorem dX14_cost_64 : decode cX14_cost 64 = .ok (.iload 5, 2) := dk_21 5 (dk_at dksX14_cost_2 17 rfl rfl)
theorem dX14_cost_66 : decode cX14_cost 66 = .ok (.iaload, 1) := dk_46 (dk_at dksX14_cost_2 19 rfl rfl)
theorem dX14_cost_67 : decode cX14_cost 67 = .ok (.aload_n 0, 1) := dk_42 (dk_at dksX14_cost_2 20 rfl rfl)
theorem dX14_cost_68 : decode cX14_cost 68 = .ok (.invokevirtual 288, 3) := dk_182 1 32 (dk_at dksX14_cost_2 21 rfl rfl)
theorem dX14_cost_71 : decode cX14_cost 71 = .ok (.if_icmp .ge 18, 3) := dk_162 0 18 (dk_at dksX14_cost_3 0 rfl rfl)
theorem dX14_cost_74 : decode cX14_cost 74 = .ok (.iload 4, 2) := dk_21 4 (dk_at dksX14_cost_3 3 rfl rfl)
theorem dX14_cost_76 : decode cX14_cost 76 = .ok (.aload_n 0, 1) := dk_42 (dk_at dksX14_cost_3 5 rfl rfl)
theorem dX14_cost_77 : decode cX14_cost 77 = .ok (.getfield 7, 3) := dk_180 0 7 (dk_at dksX14_cost_3 6 rfl rfl)
theorem dX14_cost_80 : decode cX14_cost 80 = .ok (.iload 5, 2) := dk_21 5 (dk_at dksX14_cost_3 9 rfl rfl)
theorem dX14_cost_82 : decode cX14_cost 82 = .ok (.iaload, 1) := dk_46 (dk_at dksX14_cost_3 11 rfl rfl)
theorem dX14_cost_83 : decode cX14_cost 83 = .ok (.invokestatic 258, 3) := dk_184 1 2 (dk_at dksX14_cost_3 12 rfl rfl)
theorem dX14_cost_86 : decode cX14_cost 86 = .ok (.ifCond .eq 8, 3) := dk_153 0 8 (dk_at dksX14_cost_3 15 rfl rfl)
theorem dX14_cost_89 : decode cX14_cost 89 = .ok (.aload_n 0, 1) := dk_42 (dk_at dksX14_cost_3 18 rfl rfl)
theorem dX14_cost_90 : decode cX14_cost 90 = .ok (.invokevirtual 291, 3) := dk_182 1 35 (dk_at dksX14_cost_3 19 rfl rfl)
theorem dX14_cost_93 : decode cX14_cost 93 = .ok (.ireturn, 1) := dk_172 (dk_at dksX14_cost_3 22 rfl rfl)
theorem dX14_cost_94 : decode cX14_cost 94 = .ok (.iload 4, 2) := dk_21 4 (dk_at dksX14_cost_4 0 rfl rfl)
theorem dX14_cost_96 : decode cX14_cost 96 = .ok (.iconst 1, 1) := dk_4 (dk_at dksX14_cost_4 2 rfl rfl)
theorem dX14_cost_97 : decode cX14_cost 97 = .ok (.aload_n 0, 1) := dk_42 (dk_at dksX14_cost_4 3 rfl rfl)
theorem dX14_cost_98 : decode cX14_cost 98 = .ok (.getfield 7, 3) := dk_180 0 7 (dk_at dksX14_cost_4 4 rfl rfl)
theorem dX14_cost_101 : decode cX14_cost 101 = .ok (.iload 5, 2) := dk_21 5 (dk_at dksX14_cost_4 7 rfl rfl)
theorem dX14_cost_103 : decode cX14_cost 103 = .ok (.iaload, 1) := dk_46 (dk_at dksX14_cost_4 9 rfl rfl)
theorem dX14_cost_104 : decode cX14_cost 104 = .ok (.ishl, 1) := dk_120 (dk_at dksX14_cost_4 10 rfl rfl)
theorem dX14_cost_105 : decode cX14_cost 105 = .ok (.ior, 1) := dk_128 (dk_at dksX14_cost_4 11 rfl rfl)
theorem dX14_cost_106 : decode cX14_cost 106 = .ok (.istore 4, 2) := dk_54 4 (dk_at dksX14_cost_4 12 rfl rfl)
theorem dX14_cost_108 : decode cX14_cost 108 = .ok (.aload_n 0, 1) := dk_42 (dk_at dksX14_cost_4 14 rfl rfl)
theorem dX14_cost_109 : decode cX14_cost 109 = .ok (.getfield 39, 3) := dk_180 0 39 (dk_at dksX14_cost_4 15 rfl rfl)
theorem dX14_cost_112 : decode cX14_cost 112 = .ok (.iload 5, 2) := dk_21 5 (dk_at dksX14_cost_4 18 rfl rfl)
theorem dX14_cost_114 : decode cX14_cost 114 = .ok (.aload_n 0, 1) := dk_42 (dk_at dksX14_cost_4 20 rfl rfl)
theorem dX14_cost_115 : decode cX14_cost 115 = .ok (.getfield 7, 3) := dk_180 0 7 (dk_at dksX14_cost_4 21 rfl rfl)
theorem dX14_cost_118 : decode cX14_cost 118 = .ok (.iload 5, 2) := dk_21 5 (dk_at dksX14_cost_5 0 rfl rfl)
theorem dX14_cost_120 : decode cX14_cost 120 = .ok (.iaload, 1) := dk_46 (dk_at dksX14_cost_5 2 rfl rfl)
theorem dX14_cost_121 : decode cX14_cost 121 = .ok (.iastore, 1) := dk_79 (dk_at dksX14_cost_5 3 rfl rfl)
theorem dX14_cost_122 : decode cX14_cost 122 = .ok (.iinc 5 1, 3) := dk_132 5 1 (dk_at dksX14_cost_5 4 rfl rfl)
theorem dX14_cost_125 : decode cX14_cost 125 = .ok (.goto (-71), 3) := dk_167 255 185 (dk_at dksX14_cost_5 7 rfl rfl)
theorem dX14_cost_128 : decode cX14_cost 128 = .ok (.aload_n 0, 1) := dk_42 (dk_at dksX14_cost_5 10 rfl rfl)
theorem dX14_cost_129 : decode cX14_cost 129 = .ok (.iconst 0, 1) := dk_3 (dk_at dksX14_cost_5 11 rfl rfl)
theorem dX14_cost_130 : decode cX14_cost 130 = .ok (.putfield 148, 3) := dk_181 0 148 (dk_at dksX14_cost_5 12 rfl rfl)
theorem dX14_cost_133 : decode cX14_cost 133 = .ok (.aload_n 0, 1) := dk_42 (dk_at dksX14_cost_5 15 rfl rfl)
theorem dX14_cost_134 : decode cX14_cost 134 = .ok (.invokevirtual 235, 3) := dk_182 0 235 (dk_at dksX14_cost_5 16 rfl rfl)
theorem dX14_cost_137 : decode cX14_cost 137 = .ok (.pop, 1) := dk_87 (dk_at dksX14_cost_5 19 rfl rfl)
theorem dX14_cost_138 : decode cX14_cost 138 = .ok (.aload_n 0, 1) := dk_42 (dk_at dksX14_cost_5 20 rfl rfl)
theorem dX14_cost_139 : decode cX14_cost 139 = .ok (.iconst 1, 1) := dk_4 (dk_at dksX14_cost_5 21 rfl rfl)
theorem dX14_cost_140 : decode cX14_cost 140 = .ok (.iload_n 3, 1) := dk_29 (dk_at dksX14_cost_5 22 rfl rfl)
theorem dX14_cost_141 : decode cX14_cost 141 = .ok (.aload_n 0, 1) := dk_42 (dk_at dksX14_cost_5 23 rfl rfl)
theorem dX14_cost_142 : decode cX14_cost 142 = .ok (.getfield 13, 3) := dk_180 0 13 (dk_at dksX14_cost_6 0 rfl rfl)
theorem dX14_cost_145 : decode cX14_cost 145 = .ok (.iconst 5, 1) := dk_8 (dk_at dksX14_cost_6 3 rfl rfl)
theorem dX14_cost_146 : decode cX14_cost 146 = .ok (.iaload, 1) := dk_46 (dk_at dksX14_cost_6 4 rfl rfl)
theorem dX14_cost_147 : decode cX14_cost 147 = .ok (.iload_n 2, 1) := dk_28 (dk_at dksX14_cost_6 5 rfl rfl)
theorem dX14_cost_148 : decode cX14_cost 148 = .ok (.invokevirtual 376, 3) := dk_182 1 120 (dk_at dksX14_cost_6 6 rfl rfl)
theorem dX14_cost_151 : decode cX14_cost 151 = .ok (.istore 5, 2) := dk_54 5 (dk_at dksX14_cost_6 9 rfl rfl)
theorem dX14_cost_153 : decode cX14_cost 153 = .ok (.aload_n 0, 1) := dk_42 (dk_at dksX14_cost_6 11 rfl rfl)
theorem dX14_cost_154 : decode cX14_cost 154 = .ok (.iconst 2, 1) := dk_5 (dk_at dksX14_cost_6 12 rfl rfl)
theorem dX14_cost_155 : decode cX14_cost 155 = .ok (.iload_n 3, 1) := dk_29 (dk_at dksX14_cost_6 13 rfl rfl)
theorem dX14_cost_156 : decode cX14_cost 156 = .ok (.aload_n 0, 1) := dk_42 (dk_at dksX14_cost_6 14 rfl rfl)
theorem dX14_cost_157 : decode cX14_cost 157 = .ok (.getfield 13, 3) := dk_180 0 13 (dk_at dksX14_cost_6 15 rfl rfl)
theorem dX14_cost_160 : decode cX14_cost 160 = .ok (.iconst 5, 1) := dk_8 (dk_at dksX14_cost_6 18 rfl rfl)
theorem dX14_cost_161 : decode cX14_cost 161 = .ok (.iaload, 1) := dk_46 (dk_at dksX14_cost_6 19 rfl rfl)
theorem dX14_cost_162 : decode cX14_cost 162 = .ok (.bipush 60, 2) := dk_16 60 (dk_at dksX14_cost_6 20 rfl rfl)
theorem dX14_cost_164 : decode cX14_cost 164 = .ok (.iload_n 1, 1) := dk_27 (dk_at dksX14_cost_6 22 rfl rfl)
theorem dX14_cost_165 : decode cX14_cost 165 = .ok (.imul, 1) := dk_104 (dk_at dksX14_cost_6 23 rfl rfl)
theorem dX14_cost_166 : decode cX14_cost 166 = .ok (.invokevirtual 376, 3) := dk_182 1 120 (dk_at dksX14_cost_7 0 rfl rfl)
theorem dX14_cost_169 : decode cX14_cost 169 = .ok (.istore 6, 2) := dk_54 6 (dk_at dksX14_cost_7 3 rfl rfl)
theorem dX14_cost_171 : decode cX14_cost 171 = .ok (.iload 5, 2) := dk_21 5 (dk_at dksX14_cost_7 5 rfl rfl)
theorem dX14_cost_173 : decode cX14_cost 173 = .ok (.iload 6, 2) := dk_21 6 (dk_at dksX14_cost_7 7 rfl rfl)
theorem dX14_cost_175 : decode cX14_cost 175 = .ok (.isub, 1) := dk_100 (dk_at dksX14_cost_7 9 rfl rfl)
theorem dX14_cost_176 : decode cX14_cost 176 = .ok (.aload_n 0, 1) := dk_42 (dk_at dksX14_cost_7 10 rfl rfl)
theorem dX14_cost_177 : decode cX14_cost 177 = .ok (.iconst 1, 1) := dk_4 (dk_at dksX14_cost_7 11 rfl rfl)
theorem dX14_cost_178 : decode cX14_cost 178 = .ok (.iload_n 3, 1) := dk_29 (dk_at dksX14_cost_7 12 rfl rfl)
theorem dX14_cost_179 : decode cX14_cost 179 = .ok (.aload_n 0, 1) := dk_42 (dk_at dksX14_cost_7 13 rfl rfl)
theorem dX14_cost_180 : decode cX14_cost 180 = .ok (.getfield 13, 3) := dk_180 0 13 (dk_at dksX14_cost_7 14 rfl rfl)
theorem dX14_cost_183 : decode cX14_cost 183 = .ok (.iconst 5, 1) := dk_8 (dk_at dksX14_cost_7 17 rfl rfl)
theorem dX14_cost_184 : decode cX14_cost 184 = .ok (.iaload, 1) := dk_46 (dk_at dksX14_cost_7 18 rfl rfl)
theorem dX14_cost_185 : decode cX14_cost 185 = .ok (.aload_n 0, 1) := dk_42 (dk_at dksX14_cost_7 19 rfl rfl)
theorem dX14_cost_186 : decode cX14_cost 186 = .ok (.getfield 325, 3) := dk_180 1 69 (dk_at dksX14_cost_7 20 rfl rfl)
theorem dX14_cost_189 : decode cX14_cost 189 = .ok (.isub, 1) := dk_100 (dk_at dksX14_cost_7 23 rfl rfl)
theorem dX14_cost_190 : decode cX14_cost 190 = .ok (.iload_n 2, 1) := dk_28 (dk_at dksX14_cost_8 0 rfl rfl)
theorem dX14_cost_191 : decode cX14_cost 191 = .ok (.bipush 60, 2) := dk_16 60 (dk_at dksX14_cost_8 1 rfl rfl)
theorem dX14_cost_193 : decode cX14_cost 193 = .ok (.iload_n 1, 1) := dk_27 (dk_at dksX14_cost_8 3 rfl rfl)
theorem dX14_cost_194 : decode cX14_cost 194 = .ok (.imul, 1) := dk_104 (dk_at dksX14_cost_8 4 rfl rfl)
theorem dX14_cost_195 : decode cX14_cost 195 = .ok (.isub, 1) := dk_100 (dk_at dksX14_cost_8 5 rfl rfl)
theorem dX14_cost_196 : decode cX14_cost 196 = .ok (.invokevirtual 376, 3) := dk_182 1 120 (dk_at dksX14_cost_8 6 rfl rfl)
theorem dX14_cost_199 : decode cX14_cost 199 = .ok (.isub, 1) := dk_100 (dk_at dksX14_cost_8 9 rfl rfl)
theorem dX14_cost_200 : decode cX14_cost 200 = .ok (.ireturn, 1) := dk_172 (dk_at dksX14_cost_8 10 rfl rfl)
abbrev cX14_more : ByteArray := prog_23_method_68_code
def yX14_more : MethodName := ⟨RX14, "more", "(I)I"⟩
def dkwX14_more_5 : List UInt8 := [167, 255, 233, 42, 42, 42, 180, 1, 48, 182, 1, 146, 42, 180, 1, 48, 182, 1, 143, 172]
abbrev dktX14_more_5 : List UInt8 := dkwX14_more_5 ++ []
def dkwX14_more_4 : List UInt8 := [28, 42, 180, 1, 48, 162, 0, 21, 42, 180, 0, 87, 28, 42, 180, 0, 84, 28, 46, 79, 132, 2, 1]
abbrev dktX14_more_4 : List UInt8 := dkwX14_more_4 ++ dktX14_more_5
def dkwX14_more_3 : List UInt8 := [182, 1, 146, 92, 46, 4, 96, 79, 132, 2, 1, 167, 255, 231, 42, 42, 180, 1, 48, 181, 1, 149, 3, 61]
abbrev dktX14_more_3 : List UInt8 := dkwX14_more_3 ++ dktX14_more_4
def dkwX14_more_2 : List UInt8 := [132, 2, 1, 167, 255, 238, 3, 61, 28, 27, 162, 0, 26, 42, 180, 0, 84, 42, 42, 180, 1, 48]
abbrev dktX14_more_2 : List UInt8 := dkwX14_more_2 ++ dktX14_more_3
def dkwX14_more_1 : List UInt8 := [154, 0, 5, 2, 172, 3, 61, 28, 42, 180, 1, 48, 162, 0, 16, 42, 180, 0, 84, 28, 3, 79]
abbrev dktX14_more_1 : List UInt8 := dkwX14_more_1 ++ dktX14_more_2
def dkwX14_more_0 : List UInt8 := [42, 3, 181, 0, 148, 42, 5, 16, 12, 4, 182, 1, 116, 153, 0, 13, 27, 3, 16, 9, 184, 0, 219]
abbrev dktX14_more_0 : List UInt8 := dkwX14_more_0 ++ dktX14_more_1
theorem dksX14_more_0 : cX14_more.data.toList.drop 0 = dktX14_more_0 := by decide +kernel
theorem dksX14_more_1 : cX14_more.data.toList.drop 23 = dktX14_more_1 := dk_seg dksX14_more_0 23 rfl rfl
theorem dksX14_more_2 : cX14_more.data.toList.drop 45 = dktX14_more_2 := dk_seg dksX14_more_1 22 rfl rfl
theorem dksX14_more_3 : cX14_more.data.toList.drop 67 = dktX14_more_3 := dk_seg dksX14_more_2 22 rfl rfl
theorem dksX14_more_4 : cX14_more.data.toList.drop 91 = dktX14_more_4 := dk_seg dksX14_more_3 24 rfl rfl
theorem dksX14_more_5 : cX14_more.data.toList.drop 114 = dktX14_more_5 := dk_seg dksX14_more_4 23 rfl rfl
theorem dX14_more_0 : decode cX14_more 0 = .ok (.aload_n 0, 1) := dk_42 (dk_at dksX14_more_0 0 rfl rfl)
theorem dX14_more_1 : decode cX14_more 1 = .ok (.iconst 0, 1) := dk_3 (dk_at dksX14_more_0 1 rfl rfl)
theorem dX14_more_2 : decode cX14_more 2 = .ok (.putfield 148, 3) := dk_181 0 148 (dk_at dksX14_more_0 2 rfl rfl)
theorem dX14_more_5 : decode cX14_more 5 = .ok (.aload_n 0, 1) := dk_42 (dk_at dksX14_more_0 5 rfl rfl)
theorem dX14_more_6 : decode cX14_more 6 = .ok (.iconst 2, 1) := dk_5 (dk_at dksX14_more_0 6 rfl rfl)
theorem dX14_more_7 : decode cX14_more 7 = .ok (.bipush 12, 2) := dk_16 12 (dk_at dksX14_more_0 7 rfl rfl)
theorem dX14_more_9 : decode cX14_more 9 = .ok (.iconst 1, 1) := dk_4 (dk_at dksX14_more_0 9 rfl rfl)
theorem dX14_more_10 : decode cX14_more 10 = .ok (.invokevirtual 372, 3) := dk_182 1 116 (dk_at dksX14_more_0 10 rfl rfl)
theorem dX14_more_13 : decode cX14_more 13 = .ok (.ifCond .eq 13, 3) := dk_153 0 13 (dk_at dksX14_more_0 13 rfl rfl)
theorem dX14_more_16 : decode cX14_more 16 = .ok (.iload_n 1, 1) := dk_27 (dk_at dksX14_more_0 16 rfl rfl)
theorem dX14_more_17 : decode cX14_more 17 = .ok (.iconst 0, 1) := dk_3 (dk_at dksX14_more_0 17 rfl rfl)
theorem dX14_more_18 : decode cX14_more 18 = .ok (.bipush 9, 2) := dk_16 9 (dk_at dksX14_more_0 18 rfl rfl)
theorem dX14_more_20 : decode cX14_more 20 = .ok (.invokestatic 219, 3) := dk_184 0 219 (dk_at dksX14_more_0 20 rfl rfl)
theorem dX14_more_23 : decode cX14_more 23 = .ok (.ifCond .ne 5, 3) := dk_154 0 5 (dk_at dksX14_more_1 0 rfl rfl)
theorem dX14_more_26 : decode cX14_more 26 = .ok (.iconst (-1), 1) := dk_2 (dk_at dksX14_more_1 3 rfl rfl)
theorem dX14_more_27 : decode cX14_more 27 = .ok (.ireturn, 1) := dk_172 (dk_at dksX14_more_1 4 rfl rfl)
theorem dX14_more_28 : decode cX14_more 28 = .ok (.iconst 0, 1) := dk_3 (dk_at dksX14_more_1 5 rfl rfl)
theorem dX14_more_29 : decode cX14_more 29 = .ok (.istore_n 2, 1) := dk_61 (dk_at dksX14_more_1 6 rfl rfl)
theorem dX14_more_30 : decode cX14_more 30 = .ok (.iload_n 2, 1) := dk_28 (dk_at dksX14_more_1 7 rfl rfl)
theorem dX14_more_31 : decode cX14_more 31 = .ok (.aload_n 0, 1) := dk_42 (dk_at dksX14_more_1 8 rfl rfl)
theorem dX14_more_32 : decode cX14_more 32 = .ok (.getfield 304, 3) := dk_180 1 48 (dk_at dksX14_more_1 9 rfl rfl)
theorem dX14_more_35 : decode cX14_more 35 = .ok (.if_icmp .ge 16, 3) := dk_162 0 16 (dk_at dksX14_more_1 12 rfl rfl)
theorem dX14_more_38 : decode cX14_more 38 = .ok (.aload_n 0, 1) := dk_42 (dk_at dksX14_more_1 15 rfl rfl)
theorem dX14_more_39 : decode cX14_more 39 = .ok (.getfield 84, 3) := dk_180 0 84 (dk_at dksX14_more_1 16 rfl rfl)
theorem dX14_more_42 : decode cX14_more 42 = .ok (.iload_n 2, 1) := dk_28 (dk_at dksX14_more_1 19 rfl rfl)
theorem dX14_more_43 : decode cX14_more 43 = .ok (.iconst 0, 1) := dk_3 (dk_at dksX14_more_1 20 rfl rfl)
theorem dX14_more_44 : decode cX14_more 44 = .ok (.iastore, 1) := dk_79 (dk_at dksX14_more_1 21 rfl rfl)
theorem dX14_more_45 : decode cX14_more 45 = .ok (.iinc 2 1, 3) := dk_132 2 1 (dk_at dksX14_more_2 0 rfl rfl)
theorem dX14_more_48 : decode cX14_more 48 = .ok (.goto (-18), 3) := dk_167 255 238 (dk_at dksX14_more_2 3 rfl rfl)
theorem dX14_more_51 : decode cX14_more 51 = .ok (.iconst 0, 1) := dk_3 (dk_at dksX14_more_2 6 rfl rfl)
theorem dX14_more_52 : decode cX14_more 52 = .ok (.istore_n 2, 1) := dk_61 (dk_at dksX14_more_2 7 rfl rfl)
theorem dX14_more_53 : decode cX14_more 53 = .ok (.iload_n 2, 1) := dk_28 (dk_at dksX14_more_2 8 rfl rfl)
theorem dX14_more_54 : decode cX14_more 54 = .ok (.iload_n 1, 1) := dk_27 (dk_at dksX14_more_2 9 rfl rfl)
theorem dX14_more_55 : decode cX14_more 55 = .ok (.if_icmp .ge 26, 3) := dk_162 0 26 (dk_at dksX14_more_2 10 rfl rfl)
theorem dX14_more_58 : decode cX14_more 58 = .ok (.aload_n 0, 1) := dk_42 (dk_at dksX14_more_2 13 rfl rfl)
theorem dX14_more_59 : decode cX14_more 59 = .ok (.getfield 84, 3) := dk_180 0 84 (dk_at dksX14_more_2 14 rfl rfl)
theorem dX14_more_62 : decode cX14_more 62 = .ok (.aload_n 0, 1) := dk_42 (dk_at dksX14_more_2 17 rfl rfl)
theorem dX14_more_63 : decode cX14_more 63 = .ok (.aload_n 0, 1) := dk_42 (dk_at dksX14_more_2 18 rfl rfl)
theorem dX14_more_64 : decode cX14_more 64 = .ok (.getfield 304, 3) := dk_180 1 48 (dk_at dksX14_more_2 19 rfl rfl)
theorem dX14_more_67 : decode cX14_more 67 = .ok (.invokevirtual 402, 3) := dk_182 1 146 (dk_at dksX14_more_3 0 rfl rfl)
theorem dX14_more_70 : decode cX14_more 70 = .ok (.dup2, 1) := dk_92 (dk_at dksX14_more_3 3 rfl rfl)
theorem dX14_more_71 : decode cX14_more 71 = .ok (.iaload, 1) := dk_46 (dk_at dksX14_more_3 4 rfl rfl)
theorem dX14_more_72 : decode cX14_more 72 = .ok (.iconst 1, 1) := dk_4 (dk_at dksX14_more_3 5 rfl rfl)
theorem dX14_more_73 : decode cX14_more 73 = .ok (.iadd, 1) := dk_96 (dk_at dksX14_more_3 6 rfl rfl)
theorem dX14_more_74 : decode cX14_more 74 = .ok (.iastore, 1) := dk_79 (dk_at dksX14_more_3 7 rfl rfl)
theorem dX14_more_75 : decode cX14_more 75 = .ok (.iinc 2 1, 3) := dk_132 2 1 (dk_at dksX14_more_3 8 rfl rfl)
theorem dX14_more_78 : decode cX14_more 78 = .ok (.goto (-25), 3) := dk_167 255 231 (dk_at dksX14_more_3 11 rfl rfl)
theorem dX14_more_81 : decode cX14_more 81 = .ok (.aload_n 0, 1) := dk_42 (dk_at dksX14_more_3 14 rfl rfl)
theorem dX14_more_82 : decode cX14_more 82 = .ok (.aload_n 0, 1) := dk_42 (dk_at dksX14_more_3 15 rfl rfl)
theorem dX14_more_83 : decode cX14_more 83 = .ok (.getfield 304, 3) := dk_180 1 48 (dk_at dksX14_more_3 16 rfl rfl)
theorem dX14_more_86 : decode cX14_more 86 = .ok (.putfield 405, 3) := dk_181 1 149 (dk_at dksX14_more_3 19 rfl rfl)
theorem dX14_more_89 : decode cX14_more 89 = .ok (.iconst 0, 1) := dk_3 (dk_at dksX14_more_3 22 rfl rfl)
theorem dX14_more_90 : decode cX14_more 90 = .ok (.istore_n 2, 1) := dk_61 (dk_at dksX14_more_3 23 rfl rfl)
theorem dX14_more_91 : decode cX14_more 91 = .ok (.iload_n 2, 1) := dk_28 (dk_at dksX14_more_4 0 rfl rfl)
theorem dX14_more_92 : decode cX14_more 92 = .ok (.aload_n 0, 1) := dk_42 (dk_at dksX14_more_4 1 rfl rfl)
theorem dX14_more_93 : decode cX14_more 93 = .ok (.getfield 304, 3) := dk_180 1 48 (dk_at dksX14_more_4 2 rfl rfl)
theorem dX14_more_96 : decode cX14_more 96 = .ok (.if_icmp .ge 21, 3) := dk_162 0 21 (dk_at dksX14_more_4 5 rfl rfl)
theorem dX14_more_99 : decode cX14_more 99 = .ok (.aload_n 0, 1) := dk_42 (dk_at dksX14_more_4 8 rfl rfl)
theorem dX14_more_100 : decode cX14_more 100 = .ok (.getfield 87, 3) := dk_180 0 87 (dk_at dksX14_more_4 9 rfl rfl)
theorem dX14_more_103 : decode cX14_more 103 = .ok (.iload_n 2, 1) := dk_28 (dk_at dksX14_more_4 12 rfl rfl)
theorem dX14_more_104 : decode cX14_more 104 = .ok (.aload_n 0, 1) := dk_42 (dk_at dksX14_more_4 13 rfl rfl)
theorem dX14_more_105 : decode cX14_more 105 = .ok (.getfield 84, 3) := dk_180 0 84 (dk_at dksX14_more_4 14 rfl rfl)
theorem dX14_more_108 : decode cX14_more 108 = .ok (.iload_n 2, 1) := dk_28 (dk_at dksX14_more_4 17 rfl rfl)
theorem dX14_more_109 : decode cX14_more 109 = .ok (.iaload, 1) := dk_46 (dk_at dksX14_more_4 18 rfl rfl)
theorem dX14_more_110 : decode cX14_more 110 = .ok (.iastore, 1) := dk_79 (dk_at dksX14_more_4 19 rfl rfl)
theorem dX14_more_111 : decode cX14_more 111 = .ok (.iinc 2 1, 3) := dk_132 2 1 (dk_at dksX14_more_4 20 rfl rfl)
theorem dX14_more_114 : decode cX14_more 114 = .ok (.goto (-23), 3) := dk_167 255 233 (dk_at dksX14_more_5 0 rfl rfl)
theorem dX14_more_117 : decode cX14_more 117 = .ok (.aload_n 0, 1) := dk_42 (dk_at dksX14_more_5 3 rfl rfl)
theorem dX14_more_118 : decode cX14_more 118 = .ok (.aload_n 0, 1) := dk_42 (dk_at dksX14_more_5 4 rfl rfl)
theorem dX14_more_119 : decode cX14_more 119 = .ok (.aload_n 0, 1) := dk_42 (dk_at dksX14_more_5 5 rfl rfl)
theorem dX14_more_120 : decode cX14_more 120 = .ok (.getfield 304, 3) := dk_180 1 48 (dk_at dksX14_more_5 6 rfl rfl)
theorem dX14_more_123 : decode cX14_more 123 = .ok (.invokevirtual 402, 3) := dk_182 1 146 (dk_at dksX14_more_5 9 rfl rfl)
theorem dX14_more_126 : decode cX14_more 126 = .ok (.aload_n 0, 1) := dk_42 (dk_at dksX14_more_5 12 rfl rfl)
theorem dX14_more_127 : decode cX14_more 127 = .ok (.getfield 304, 3) := dk_180 1 48 (dk_at dksX14_more_5 13 rfl rfl)
theorem dX14_more_130 : decode cX14_more 130 = .ok (.invokevirtual 399, 3) := dk_182 1 143 (dk_at dksX14_more_5 16 rfl rfl)
theorem dX14_more_133 : decode cX14_more 133 = .ok (.ireturn, 1) := dk_172 (dk_at dksX14_more_5 19 rfl rfl)
abbrev cX14_longest : ByteArray := prog_23_method_67_code
def yX14_longest : MethodName := ⟨RX14, "longest", "(I)I"⟩
def dkwX14_longest_1 : List UInt8 := [29, 61, 132, 3, 1, 167, 255, 231, 28, 172]
abbrev dktX14_longest_1 : List UInt8 := dkwX14_longest_1 ++ []
def dkwX14_longest_0 : List UInt8 := [3, 61, 4, 62, 29, 27, 162, 0, 26, 42, 29, 27, 182, 1, 143, 42, 28, 27, 182, 1, 143, 164, 0, 5]
abbrev dktX14_longest_0 : List UInt8 := dkwX14_longest_0 ++ dktX14_longest_1
theorem dksX14_longest_0 : cX14_longest.data.toList.drop 0 = dktX14_longest_0 := by decide +kernel
theorem dksX14_longest_1 : cX14_longest.data.toList.drop 24 = dktX14_longest_1 := dk_seg dksX14_longest_0 24 rfl rfl
theorem dX14_longest_0 : decode cX14_longest 0 = .ok (.iconst 0, 1) := dk_3 (dk_at dksX14_longest_0 0 rfl rfl)
theorem dX14_longest_1 : decode cX14_longest 1 = .ok (.istore_n 2, 1) := dk_61 (dk_at dksX14_longest_0 1 rfl rfl)
theorem dX14_longest_2 : decode cX14_longest 2 = .ok (.iconst 1, 1) := dk_4 (dk_at dksX14_longest_0 2 rfl rfl)
theorem dX14_longest_3 : decode cX14_longest 3 = .ok (.istore_n 3, 1) := dk_62 (dk_at dksX14_longest_0 3 rfl rfl)
theorem dX14_longest_4 : decode cX14_longest 4 = .ok (.iload_n 3, 1) := dk_29 (dk_at dksX14_longest_0 4 rfl rfl)
theorem dX14_longest_5 : decode cX14_longest 5 = .ok (.iload_n 1, 1) := dk_27 (dk_at dksX14_longest_0 5 rfl rfl)
theorem dX14_longest_6 : decode cX14_longest 6 = .ok (.if_icmp .ge 26, 3) := dk_162 0 26 (dk_at dksX14_longest_0 6 rfl rfl)
theorem dX14_longest_9 : decode cX14_longest 9 = .ok (.aload_n 0, 1) := dk_42 (dk_at dksX14_longest_0 9 rfl rfl)
theorem dX14_longest_10 : decode cX14_longest 10 = .ok (.iload_n 3, 1) := dk_29 (dk_at dksX14_longest_0 10 rfl rfl)
theorem dX14_longest_11 : decode cX14_longest 11 = .ok (.iload_n 1, 1) := dk_27 (dk_at dksX14_longest_0 11 rfl rfl)
theorem dX14_longest_12 : decode cX14_longest 12 = .ok (.invokevirtual 399, 3) := dk_182 1 143 (dk_at dksX14_longest_0 12 rfl rfl)
theorem dX14_longest_15 : decode cX14_longest 15 = .ok (.aload_n 0, 1) := dk_42 (dk_at dksX14_longest_0 15 rfl rfl)
theorem dX14_longest_16 : decode cX14_longest 16 = .ok (.iload_n 2, 1) := dk_28 (dk_at dksX14_longest_0 16 rfl rfl)
theorem dX14_longest_17 : decode cX14_longest 17 = .ok (.iload_n 1, 1) := dk_27 (dk_at dksX14_longest_0 17 rfl rfl)
theorem dX14_longest_18 : decode cX14_longest 18 = .ok (.invokevirtual 399, 3) := dk_182 1 143 (dk_at dksX14_longest_0 18 rfl rfl)
theorem dX14_longest_21 : decode cX14_longest 21 = .ok (.if_icmp .le 5, 3) := dk_164 0 5 (dk_at dksX14_longest_0 21 rfl rfl)
theorem dX14_longest_24 : decode cX14_longest 24 = .ok (.iload_n 3, 1) := dk_29 (dk_at dksX14_longest_1 0 rfl rfl)
theorem dX14_longest_25 : decode cX14_longest 25 = .ok (.istore_n 2, 1) := dk_61 (dk_at dksX14_longest_1 1 rfl rfl)
theorem dX14_longest_26 : decode cX14_longest 26 = .ok (.iinc 3 1, 3) := dk_132 3 1 (dk_at dksX14_longest_1 2 rfl rfl)
theorem dX14_longest_29 : decode cX14_longest 29 = .ok (.goto (-25), 3) := dk_167 255 231 (dk_at dksX14_longest_1 5 rfl rfl)
theorem dX14_longest_32 : decode cX14_longest 32 = .ok (.iload_n 2, 1) := dk_28 (dk_at dksX14_longest_1 8 rfl rfl)
theorem dX14_longest_33 : decode cX14_longest 33 = .ok (.ireturn, 1) := dk_172 (dk_at dksX14_longest_1 9 rfl rfl)
abbrev cX14_shared : ByteArray := prog_23_method_66_code
def yX14_shared : MethodName := ⟨RX14, "shared", "(II)I"⟩
def dkwX14_shared_0 : List UInt8 := [42, 27, 28, 42, 180, 0, 39, 27, 46, 182, 1, 91, 42, 180, 0, 84, 27, 46, 4, 96, 184, 1, 72, 172]
abbrev dktX14_shared_0 : List UInt8 := dkwX14_shared_0 ++ []
theorem dksX14_shared_0 : cX14_shared.data.toList.drop 0 = dktX14_shared_0 := by decide +kernel
theorem dX14_shared_0 : decode cX14_shared 0 = .ok (.aload_n 0, 1) := dk_42 (dk_at dksX14_shared_0 0 rfl rfl)
theorem dX14_shared_1 : decode cX14_shared 1 = .ok (.iload_n 1, 1) := dk_27 (dk_at dksX14_shared_0 1 rfl rfl)
theorem dX14_shared_2 : decode cX14_shared 2 = .ok (.iload_n 2, 1) := dk_28 (dk_at dksX14_shared_0 2 rfl rfl)
theorem dX14_shared_3 : decode cX14_shared 3 = .ok (.aload_n 0, 1) := dk_42 (dk_at dksX14_shared_0 3 rfl rfl)
theorem dX14_shared_4 : decode cX14_shared 4 = .ok (.getfield 39, 3) := dk_180 0 39 (dk_at dksX14_shared_0 4 rfl rfl)
theorem dX14_shared_7 : decode cX14_shared 7 = .ok (.iload_n 1, 1) := dk_27 (dk_at dksX14_shared_0 7 rfl rfl)
theorem dX14_shared_8 : decode cX14_shared 8 = .ok (.iaload, 1) := dk_46 (dk_at dksX14_shared_0 8 rfl rfl)
theorem dX14_shared_9 : decode cX14_shared 9 = .ok (.invokevirtual 347, 3) := dk_182 1 91 (dk_at dksX14_shared_0 9 rfl rfl)
theorem dX14_shared_12 : decode cX14_shared 12 = .ok (.aload_n 0, 1) := dk_42 (dk_at dksX14_shared_0 12 rfl rfl)
theorem dX14_shared_13 : decode cX14_shared 13 = .ok (.getfield 84, 3) := dk_180 0 84 (dk_at dksX14_shared_0 13 rfl rfl)
theorem dX14_shared_16 : decode cX14_shared 16 = .ok (.iload_n 1, 1) := dk_27 (dk_at dksX14_shared_0 16 rfl rfl)
theorem dX14_shared_17 : decode cX14_shared 17 = .ok (.iaload, 1) := dk_46 (dk_at dksX14_shared_0 17 rfl rfl)
theorem dX14_shared_18 : decode cX14_shared 18 = .ok (.iconst 1, 1) := dk_4 (dk_at dksX14_shared_0 18 rfl rfl)
theorem dX14_shared_19 : decode cX14_shared 19 = .ok (.iadd, 1) := dk_96 (dk_at dksX14_shared_0 19 rfl rfl)
theorem dX14_shared_20 : decode cX14_shared 20 = .ok (.invokestatic 328, 3) := dk_184 1 72 (dk_at dksX14_shared_0 20 rfl rfl)
theorem dX14_shared_23 : decode cX14_shared 23 = .ok (.ireturn, 1) := dk_172 (dk_at dksX14_shared_0 23 rfl rfl)
abbrev cX14_moreAt : ByteArray := prog_23_method_69_code
def yX14_moreAt : MethodName := ⟨RX14, "moreAt", "(I)I"⟩
def dkwX14_moreAt_1 : List UInt8 := [167, 0, 4, 2, 172]
abbrev dktX14_moreAt_1 : List UInt8 := dkwX14_moreAt_1 ++ []
def dkwX14_moreAt_0 : List UInt8 := [42, 3, 181, 0, 148, 27, 155, 0, 20, 27, 42, 180, 1, 149, 162, 0, 12, 42, 180, 0, 87, 27, 46]
abbrev dktX14_moreAt_0 : List UInt8 := dkwX14_moreAt_0 ++ dktX14_moreAt_1
theorem dksX14_moreAt_0 : cX14_moreAt.data.toList.drop 0 = dktX14_moreAt_0 := by decide +kernel
theorem dksX14_moreAt_1 : cX14_moreAt.data.toList.drop 23 = dktX14_moreAt_1 := dk_seg dksX14_moreAt_0 23 rfl rfl
theorem dX14_moreAt_0 : decode cX14_moreAt 0 = .ok (.aload_n 0, 1) := dk_42 (dk_at dksX14_moreAt_0 0 rfl rfl)
theorem dX14_moreAt_1 : decode cX14_moreAt 1 = .ok (.iconst 0, 1) := dk_3 (dk_at dksX14_moreAt_0 1 rfl rfl)
theorem dX14_moreAt_2 : decode cX14_moreAt 2 = .ok (.putfield 148, 3) := dk_181 0 148 (dk_at dksX14_moreAt_0 2 rfl rfl)
theorem dX14_moreAt_5 : decode cX14_moreAt 5 = .ok (.iload_n 1, 1) := dk_27 (dk_at dksX14_moreAt_0 5 rfl rfl)
theorem dX14_moreAt_6 : decode cX14_moreAt 6 = .ok (.ifCond .lt 20, 3) := dk_155 0 20 (dk_at dksX14_moreAt_0 6 rfl rfl)
theorem dX14_moreAt_9 : decode cX14_moreAt 9 = .ok (.iload_n 1, 1) := dk_27 (dk_at dksX14_moreAt_0 9 rfl rfl)
theorem dX14_moreAt_10 : decode cX14_moreAt 10 = .ok (.aload_n 0, 1) := dk_42 (dk_at dksX14_moreAt_0 10 rfl rfl)
theorem dX14_moreAt_11 : decode cX14_moreAt 11 = .ok (.getfield 405, 3) := dk_180 1 149 (dk_at dksX14_moreAt_0 11 rfl rfl)
theorem dX14_moreAt_14 : decode cX14_moreAt 14 = .ok (.if_icmp .ge 12, 3) := dk_162 0 12 (dk_at dksX14_moreAt_0 14 rfl rfl)
theorem dX14_moreAt_17 : decode cX14_moreAt 17 = .ok (.aload_n 0, 1) := dk_42 (dk_at dksX14_moreAt_0 17 rfl rfl)
theorem dX14_moreAt_18 : decode cX14_moreAt 18 = .ok (.getfield 87, 3) := dk_180 0 87 (dk_at dksX14_moreAt_0 18 rfl rfl)
theorem dX14_moreAt_21 : decode cX14_moreAt 21 = .ok (.iload_n 1, 1) := dk_27 (dk_at dksX14_moreAt_0 21 rfl rfl)
theorem dX14_moreAt_22 : decode cX14_moreAt 22 = .ok (.iaload, 1) := dk_46 (dk_at dksX14_moreAt_0 22 rfl rfl)
theorem dX14_moreAt_23 : decode cX14_moreAt 23 = .ok (.goto 4, 3) := dk_167 0 4 (dk_at dksX14_moreAt_1 0 rfl rfl)
theorem dX14_moreAt_26 : decode cX14_moreAt 26 = .ok (.iconst (-1), 1) := dk_2 (dk_at dksX14_moreAt_1 3 rfl rfl)
theorem dX14_moreAt_27 : decode cX14_moreAt 27 = .ok (.ireturn, 1) := dk_172 (dk_at dksX14_moreAt_1 4 rfl rfl)
abbrev cX14_relief : ByteArray := prog_23_method_71_code
def yX14_relief : MethodName := ⟨RX14, "relief", "()I"⟩
def dkwX14_relief_1 : List UInt8 := [180, 1, 48, 163, 0, 19, 42, 27, 182, 1, 152, 153, 0, 5, 27, 172, 132, 1, 1, 167, 255, 235, 2, 172]
abbrev dktX14_relief_1 : List UInt8 := dkwX14_relief_1 ++ []
def dkwX14_relief_0 : List UInt8 := [42, 3, 181, 0, 148, 42, 4, 16, 12, 4, 182, 1, 116, 154, 0, 6, 16, 254, 172, 4, 60, 27, 42]
abbrev dktX14_relief_0 : List UInt8 := dkwX14_relief_0 ++ dktX14_relief_1
theorem dksX14_relief_0 : cX14_relief.data.toList.drop 0 = dktX14_relief_0 := by decide +kernel
theorem dksX14_relief_1 : cX14_relief.data.toList.drop 23 = dktX14_relief_1 := dk_seg dksX14_relief_0 23 rfl rfl
theorem dX14_relief_0 : decode cX14_relief 0 = .ok (.aload_n 0, 1) := dk_42 (dk_at dksX14_relief_0 0 rfl rfl)
theorem dX14_relief_1 : decode cX14_relief 1 = .ok (.iconst 0, 1) := dk_3 (dk_at dksX14_relief_0 1 rfl rfl)
theorem dX14_relief_2 : decode cX14_relief 2 = .ok (.putfield 148, 3) := dk_181 0 148 (dk_at dksX14_relief_0 2 rfl rfl)
theorem dX14_relief_5 : decode cX14_relief 5 = .ok (.aload_n 0, 1) := dk_42 (dk_at dksX14_relief_0 5 rfl rfl)
theorem dX14_relief_6 : decode cX14_relief 6 = .ok (.iconst 1, 1) := dk_4 (dk_at dksX14_relief_0 6 rfl rfl)
theorem dX14_relief_7 : decode cX14_relief 7 = .ok (.bipush 12, 2) := dk_16 12 (dk_at dksX14_relief_0 7 rfl rfl)
theorem dX14_relief_9 : decode cX14_relief 9 = .ok (.iconst 1, 1) := dk_4 (dk_at dksX14_relief_0 9 rfl rfl)
theorem dX14_relief_10 : decode cX14_relief 10 = .ok (.invokevirtual 372, 3) := dk_182 1 116 (dk_at dksX14_relief_0 10 rfl rfl)
theorem dX14_relief_13 : decode cX14_relief 13 = .ok (.ifCond .ne 6, 3) := dk_154 0 6 (dk_at dksX14_relief_0 13 rfl rfl)
theorem dX14_relief_16 : decode cX14_relief 16 = .ok (.bipush (-2), 2) := dk_16 254 (dk_at dksX14_relief_0 16 rfl rfl)
theorem dX14_relief_18 : decode cX14_relief 18 = .ok (.ireturn, 1) := dk_172 (dk_at dksX14_relief_0 18 rfl rfl)
theorem dX14_relief_19 : decode cX14_relief 19 = .ok (.iconst 1, 1) := dk_4 (dk_at dksX14_relief_0 19 rfl rfl)
theorem dX14_relief_20 : decode cX14_relief 20 = .ok (.istore_n 1, 1) := dk_60 (dk_at dksX14_relief_0 20 rfl rfl)
theorem dX14_relief_21 : decode cX14_relief 21 = .ok (.iload_n 1, 1) := dk_27 (dk_at dksX14_relief_0 21 rfl rfl)
theorem dX14_relief_22 : decode cX14_relief 22 = .ok (.aload_n 0, 1) := dk_42 (dk_at dksX14_relief_0 22 rfl rfl)
theorem dX14_relief_23 : decode cX14_relief 23 = .ok (.getfield 304, 3) := dk_180 1 48 (dk_at dksX14_relief_1 0 rfl rfl)
theorem dX14_relief_26 : decode cX14_relief 26 = .ok (.if_icmp .gt 19, 3) := dk_163 0 19 (dk_at dksX14_relief_1 3 rfl rfl)
theorem dX14_relief_29 : decode cX14_relief 29 = .ok (.aload_n 0, 1) := dk_42 (dk_at dksX14_relief_1 6 rfl rfl)
theorem dX14_relief_30 : decode cX14_relief 30 = .ok (.iload_n 1, 1) := dk_27 (dk_at dksX14_relief_1 7 rfl rfl)
theorem dX14_relief_31 : decode cX14_relief 31 = .ok (.invokevirtual 408, 3) := dk_182 1 152 (dk_at dksX14_relief_1 8 rfl rfl)
theorem dX14_relief_34 : decode cX14_relief 34 = .ok (.ifCond .eq 5, 3) := dk_153 0 5 (dk_at dksX14_relief_1 11 rfl rfl)
theorem dX14_relief_37 : decode cX14_relief 37 = .ok (.iload_n 1, 1) := dk_27 (dk_at dksX14_relief_1 14 rfl rfl)
theorem dX14_relief_38 : decode cX14_relief 38 = .ok (.ireturn, 1) := dk_172 (dk_at dksX14_relief_1 15 rfl rfl)
theorem dX14_relief_39 : decode cX14_relief 39 = .ok (.iinc 1 1, 3) := dk_132 1 1 (dk_at dksX14_relief_1 16 rfl rfl)
theorem dX14_relief_42 : decode cX14_relief 42 = .ok (.goto (-21), 3) := dk_167 255 235 (dk_at dksX14_relief_1 19 rfl rfl)
theorem dX14_relief_45 : decode cX14_relief 45 = .ok (.iconst (-1), 1) := dk_2 (dk_at dksX14_relief_1 22 rfl rfl)
theorem dX14_relief_46 : decode cX14_relief 46 = .ok (.ireturn, 1) := dk_172 (dk_at dksX14_relief_1 23 rfl rfl)
abbrev cX14_canThrow : ByteArray := prog_23_method_70_code
def yX14_canThrow : MethodName := ⟨RX14, "canThrow", "(I)Z"⟩
def dkwX14_canThrow_5 : List UInt8 := [132, 2, 1, 167, 255, 167, 4, 172]
abbrev dktX14_canThrow_5 : List UInt8 := dkwX14_canThrow_5 ++ []
def dkwX14_canThrow_4 : List UInt8 := [5, 182, 1, 38, 162, 0, 14, 42, 180, 0, 90, 21, 4, 92, 46, 4, 96, 79, 132, 4, 1, 167, 255, 208]
abbrev dktX14_canThrow_4 : List UInt8 := dkwX14_canThrow_4 ++ dktX14_canThrow_5
def dkwX14_canThrow_3 : List UInt8 := [162, 0, 48, 21, 4, 29, 159, 0, 36, 42, 180, 0, 90, 21, 4, 46, 42, 42, 180, 0, 39, 21, 4, 46]
abbrev dktX14_canThrow_3 : List UInt8 := dkwX14_canThrow_3 ++ dktX14_canThrow_4
def dkwX14_canThrow_2 : List UInt8 := [6, 162, 0, 5, 3, 172, 42, 180, 0, 90, 29, 92, 46, 6, 100, 79, 3, 54, 4, 21, 4, 27]
abbrev dktX14_canThrow_2 : List UInt8 := dkwX14_canThrow_2 ++ dktX14_canThrow_3
def dkwX14_canThrow_1 : List UInt8 := [132, 2, 1, 167, 255, 231, 3, 61, 28, 16, 60, 162, 0, 89, 28, 27, 112, 62, 42, 180, 0, 90, 29, 46]
abbrev dktX14_canThrow_1 : List UInt8 := dkwX14_canThrow_1 ++ dktX14_canThrow_2
def dkwX14_canThrow_0 : List UInt8 := [3, 61, 28, 27, 162, 0, 26, 42, 180, 0, 90, 28, 42, 42, 180, 0, 39, 28, 46, 5, 182, 1, 38, 79]
abbrev dktX14_canThrow_0 : List UInt8 := dkwX14_canThrow_0 ++ dktX14_canThrow_1
theorem dksX14_canThrow_0 : cX14_canThrow.data.toList.drop 0 = dktX14_canThrow_0 := by decide +kernel
theorem dksX14_canThrow_1 : cX14_canThrow.data.toList.drop 24 = dktX14_canThrow_1 := dk_seg dksX14_canThrow_0 24 rfl rfl
theorem dksX14_canThrow_2 : cX14_canThrow.data.toList.drop 48 = dktX14_canThrow_2 := dk_seg dksX14_canThrow_1 24 rfl rfl
theorem dksX14_canThrow_3 : cX14_canThrow.data.toList.drop 70 = dktX14_canThrow_3 := dk_seg dksX14_canThrow_2 22 rfl rfl
theorem dksX14_canThrow_4 : cX14_canThrow.data.toList.drop 94 = dktX14_canThrow_4 := dk_seg dksX14_canThrow_3 24 rfl rfl
theorem dksX14_canThrow_5 : cX14_canThrow.data.toList.drop 118 = dktX14_canThrow_5 := dk_seg dksX14_canThrow_4 24 rfl rfl
theorem dX14_canThrow_0 : decode cX14_canThrow 0 = .ok (.iconst 0, 1) := dk_3 (dk_at dksX14_canThrow_0 0 rfl rfl)
theorem dX14_canThrow_1 : decode cX14_canThrow 1 = .ok (.istore_n 2, 1) := dk_61 (dk_at dksX14_canThrow_0 1 rfl rfl)
theorem dX14_canThrow_2 : decode cX14_canThrow 2 = .ok (.iload_n 2, 1) := dk_28 (dk_at dksX14_canThrow_0 2 rfl rfl)
theorem dX14_canThrow_3 : decode cX14_canThrow 3 = .ok (.iload_n 1, 1) := dk_27 (dk_at dksX14_canThrow_0 3 rfl rfl)
theorem dX14_canThrow_4 : decode cX14_canThrow 4 = .ok (.if_icmp .ge 26, 3) := dk_162 0 26 (dk_at dksX14_canThrow_0 4 rfl rfl)
theorem dX14_canThrow_7 : decode cX14_canThrow 7 = .ok (.aload_n 0, 1) := dk_42 (dk_at dksX14_canThrow_0 7 rfl rfl)
theorem dX14_canThrow_8 : decode cX14_canThrow 8 = .ok (.getfield 90, 3) := dk_180 0 90 (dk_at dksX14_canThrow_0 8 rfl rfl)
theorem dX14_canThrow_11 : decode cX14_canThrow 11 = .ok (.iload_n 2, 1) := dk_28 (dk_at dksX14_canThrow_0 11 rfl rfl)
theorem dX14_canThrow_12 : decode cX14_canThrow 12 = .ok (.aload_n 0, 1) := dk_42 (dk_at dksX14_canThrow_0 12 rfl rfl)
theorem dX14_canThrow_13 : decode cX14_canThrow 13 = .ok (.aload_n 0, 1) := dk_42 (dk_at dksX14_canThrow_0 13 rfl rfl)
theorem dX14_canThrow_14 : decode cX14_canThrow 14 = .ok (.getfield 39, 3) := dk_180 0 39 (dk_at dksX14_canThrow_0 14 rfl rfl)
theorem dX14_canThrow_17 : decode cX14_canThrow 17 = .ok (.iload_n 2, 1) := dk_28 (dk_at dksX14_canThrow_0 17 rfl rfl)
theorem dX14_canThrow_18 : decode cX14_canThrow 18 = .ok (.iaload, 1) := dk_46 (dk_at dksX14_canThrow_0 18 rfl rfl)
theorem dX14_canThrow_19 : decode cX14_canThrow 19 = .ok (.iconst 2, 1) := dk_5 (dk_at dksX14_canThrow_0 19 rfl rfl)
theorem dX14_canThrow_20 : decode cX14_canThrow 20 = .ok (.invokevirtual 294, 3) := dk_182 1 38 (dk_at dksX14_canThrow_0 20 rfl rfl)
theorem dX14_canThrow_23 : decode cX14_canThrow 23 = .ok (.iastore, 1) := dk_79 (dk_at dksX14_canThrow_0 23 rfl rfl)
theorem dX14_canThrow_24 : decode cX14_canThrow 24 = .ok (.iinc 2 1, 3) := dk_132 2 1 (dk_at dksX14_canThrow_1 0 rfl rfl)
theorem dX14_canThrow_27 : decode cX14_canThrow 27 = .ok (.goto (-25), 3) := dk_167 255 231 (dk_at dksX14_canThrow_1 3 rfl rfl)
theorem dX14_canThrow_30 : decode cX14_canThrow 30 = .ok (.iconst 0, 1) := dk_3 (dk_at dksX14_canThrow_1 6 rfl rfl)
theorem dX14_canThrow_31 : decode cX14_canThrow 31 = .ok (.istore_n 2, 1) := dk_61 (dk_at dksX14_canThrow_1 7 rfl rfl)
theorem dX14_canThrow_32 : decode cX14_canThrow 32 = .ok (.iload_n 2, 1) := dk_28 (dk_at dksX14_canThrow_1 8 rfl rfl)
theorem dX14_canThrow_33 : decode cX14_canThrow 33 = .ok (.bipush 60, 2) := dk_16 60 (dk_at dksX14_canThrow_1 9 rfl rfl)
theorem dX14_canThrow_35 : decode cX14_canThrow 35 = .ok (.if_icmp .ge 89, 3) := dk_162 0 89 (dk_at dksX14_canThrow_1 11 rfl rfl)
theorem dX14_canThrow_38 : decode cX14_canThrow 38 = .ok (.iload_n 2, 1) := dk_28 (dk_at dksX14_canThrow_1 14 rfl rfl)
theorem dX14_canThrow_39 : decode cX14_canThrow 39 = .ok (.iload_n 1, 1) := dk_27 (dk_at dksX14_canThrow_1 15 rfl rfl)
theorem dX14_canThrow_40 : decode cX14_canThrow 40 = .ok (.irem, 1) := dk_112 (dk_at dksX14_canThrow_1 16 rfl rfl)
theorem dX14_canThrow_41 : decode cX14_canThrow 41 = .ok (.istore_n 3, 1) := dk_62 (dk_at dksX14_canThrow_1 17 rfl rfl)
theorem dX14_canThrow_42 : decode cX14_canThrow 42 = .ok (.aload_n 0, 1) := dk_42 (dk_at dksX14_canThrow_1 18 rfl rfl)
theorem dX14_canThrow_43 : decode cX14_canThrow 43 = .ok (.getfield 90, 3) := dk_180 0 90 (dk_at dksX14_canThrow_1 19 rfl rfl)
theorem dX14_canThrow_46 : decode cX14_canThrow 46 = .ok (.iload_n 3, 1) := dk_29 (dk_at dksX14_canThrow_1 22 rfl rfl)
theorem dX14_canThrow_47 : decode cX14_canThrow 47 = .ok (.iaload, 1) := dk_46 (dk_at dksX14_canThrow_1 23 rfl rfl)
theorem dX14_canThrow_48 : decode cX14_canThrow 48 = .ok (.iconst 3, 1) := dk_6 (dk_at dksX14_canThrow_2 0 rfl rfl)
theorem dX14_canThrow_49 : decode cX14_canThrow 49 = .ok (.if_icmp .ge 5, 3) := dk_162 0 5 (dk_at dksX14_canThrow_2 1 rfl rfl)
theorem dX14_canThrow_52 : decode cX14_canThrow 52 = .ok (.iconst 0, 1) := dk_3 (dk_at dksX14_canThrow_2 4 rfl rfl)
theorem dX14_canThrow_53 : decode cX14_canThrow 53 = .ok (.ireturn, 1) := dk_172 (dk_at dksX14_canThrow_2 5 rfl rfl)
theorem dX14_canThrow_54 : decode cX14_canThrow 54 = .ok (.aload_n 0, 1) := dk_42 (dk_at dksX14_canThrow_2 6 rfl rfl)
theorem dX14_canThrow_55 : decode cX14_canThrow 55 = .ok (.getfield 90, 3) := dk_180 0 90 (dk_at dksX14_canThrow_2 7 rfl rfl)
theorem dX14_canThrow_58 : decode cX14_canThrow 58 = .ok (.iload_n 3, 1) := dk_29 (dk_at dksX14_canThrow_2 10 rfl rfl)
theorem dX14_canThrow_59 : decode cX14_canThrow 59 = .ok (.dup2, 1) := dk_92 (dk_at dksX14_canThrow_2 11 rfl rfl)
theorem dX14_canThrow_60 : decode cX14_canThrow 60 = .ok (.iaload, 1) := dk_46 (dk_at dksX14_canThrow_2 12 rfl rfl)
theorem dX14_canThrow_61 : decode cX14_canThrow 61 = .ok (.iconst 3, 1) := dk_6 (dk_at dksX14_canThrow_2 13 rfl rfl)
theorem dX14_canThrow_62 : decode cX14_canThrow 62 = .ok (.isub, 1) := dk_100 (dk_at dksX14_canThrow_2 14 rfl rfl)
theorem dX14_canThrow_63 : decode cX14_canThrow 63 = .ok (.iastore, 1) := dk_79 (dk_at dksX14_canThrow_2 15 rfl rfl)
theorem dX14_canThrow_64 : decode cX14_canThrow 64 = .ok (.iconst 0, 1) := dk_3 (dk_at dksX14_canThrow_2 16 rfl rfl)
theorem dX14_canThrow_65 : decode cX14_canThrow 65 = .ok (.istore 4, 2) := dk_54 4 (dk_at dksX14_canThrow_2 17 rfl rfl)
theorem dX14_canThrow_67 : decode cX14_canThrow 67 = .ok (.iload 4, 2) := dk_21 4 (dk_at dksX14_canThrow_2 19 rfl rfl)
theorem dX14_canThrow_69 : decode cX14_canThrow 69 = .ok (.iload_n 1, 1) := dk_27 (dk_at dksX14_canThrow_2 21 rfl rfl)
theorem dX14_canThrow_70 : decode cX14_canThrow 70 = .ok (.if_icmp .ge 48, 3) := dk_162 0 48 (dk_at dksX14_canThrow_3 0 rfl rfl)
theorem dX14_canThrow_73 : decode cX14_canThrow 73 = .ok (.iload 4, 2) := dk_21 4 (dk_at dksX14_canThrow_3 3 rfl rfl)
theorem dX14_canThrow_75 : decode cX14_canThrow 75 = .ok (.iload_n 3, 1) := dk_29 (dk_at dksX14_canThrow_3 5 rfl rfl)
theorem dX14_canThrow_76 : decode cX14_canThrow 76 = .ok (.if_icmp .eq 36, 3) := dk_159 0 36 (dk_at dksX14_canThrow_3 6 rfl rfl)
theorem dX14_canThrow_79 : decode cX14_canThrow 79 = .ok (.aload_n 0, 1) := dk_42 (dk_at dksX14_canThrow_3 9 rfl rfl)
theorem dX14_canThrow_80 : decode cX14_canThrow 80 = .ok (.getfield 90, 3) := dk_180 0 90 (dk_at dksX14_canThrow_3 10 rfl rfl)
theorem dX14_canThrow_83 : decode cX14_canThrow 83 = .ok (.iload 4, 2) := dk_21 4 (dk_at dksX14_canThrow_3 13 rfl rfl)
theorem dX14_canThrow_85 : decode cX14_canThrow 85 = .ok (.iaload, 1) := dk_46 (dk_at dksX14_canThrow_3 15 rfl rfl)
theorem dX14_canThrow_86 : decode cX14_canThrow 86 = .ok (.aload_n 0, 1) := dk_42 (dk_at dksX14_canThrow_3 16 rfl rfl)
theorem dX14_canThrow_87 : decode cX14_canThrow 87 = .ok (.aload_n 0, 1) := dk_42 (dk_at dksX14_canThrow_3 17 rfl rfl)
theorem dX14_canThrow_88 : decode cX14_canThrow 88 = .ok (.getfield 39, 3) := dk_180 0 39 (dk_at dksX14_canThrow_3 18 rfl rfl)
theorem dX14_canThrow_91 : decode cX14_canThrow 91 = .ok (.iload 4, 2) := dk_21 4 (dk_at dksX14_canThrow_3 21 rfl rfl)
theorem dX14_canThrow_93 : decode cX14_canThrow 93 = .ok (.iaload, 1) := dk_46 (dk_at dksX14_canThrow_3 23 rfl rfl)
theorem dX14_canThrow_94 : decode cX14_canThrow 94 = .ok (.iconst 2, 1) := dk_5 (dk_at dksX14_canThrow_4 0 rfl rfl)
theorem dX14_canThrow_95 : decode cX14_canThrow 95 = .ok (.invokevirtual 294, 3) := dk_182 1 38 (dk_at dksX14_canThrow_4 1 rfl rfl)
theorem dX14_canThrow_98 : decode cX14_canThrow 98 = .ok (.if_icmp .ge 14, 3) := dk_162 0 14 (dk_at dksX14_canThrow_4 4 rfl rfl)
theorem dX14_canThrow_101 : decode cX14_canThrow 101 = .ok (.aload_n 0, 1) := dk_42 (dk_at dksX14_canThrow_4 7 rfl rfl)
theorem dX14_canThrow_102 : decode cX14_canThrow 102 = .ok (.getfield 90, 3) := dk_180 0 90 (dk_at dksX14_canThrow_4 8 rfl rfl)
theorem dX14_canThrow_105 : decode cX14_canThrow 105 = .ok (.iload 4, 2) := dk_21 4 (dk_at dksX14_canThrow_4 11 rfl rfl)
theorem dX14_canThrow_107 : decode cX14_canThrow 107 = .ok (.dup2, 1) := dk_92 (dk_at dksX14_canThrow_4 13 rfl rfl)
theorem dX14_canThrow_108 : decode cX14_canThrow 108 = .ok (.iaload, 1) := dk_46 (dk_at dksX14_canThrow_4 14 rfl rfl)
theorem dX14_canThrow_109 : decode cX14_canThrow 109 = .ok (.iconst 1, 1) := dk_4 (dk_at dksX14_canThrow_4 15 rfl rfl)
theorem dX14_canThrow_110 : decode cX14_canThrow 110 = .ok (.iadd, 1) := dk_96 (dk_at dksX14_canThrow_4 16 rfl rfl)
theorem dX14_canThrow_111 : decode cX14_canThrow 111 = .ok (.iastore, 1) := dk_79 (dk_at dksX14_canThrow_4 17 rfl rfl)
theorem dX14_canThrow_112 : decode cX14_canThrow 112 = .ok (.iinc 4 1, 3) := dk_132 4 1 (dk_at dksX14_canThrow_4 18 rfl rfl)
theorem dX14_canThrow_115 : decode cX14_canThrow 115 = .ok (.goto (-48), 3) := dk_167 255 208 (dk_at dksX14_canThrow_4 21 rfl rfl)
theorem dX14_canThrow_118 : decode cX14_canThrow 118 = .ok (.iinc 2 1, 3) := dk_132 2 1 (dk_at dksX14_canThrow_5 0 rfl rfl)
theorem dX14_canThrow_121 : decode cX14_canThrow 121 = .ok (.goto (-89), 3) := dk_167 255 167 (dk_at dksX14_canThrow_5 3 rfl rfl)
theorem dX14_canThrow_124 : decode cX14_canThrow 124 = .ok (.iconst 1, 1) := dk_4 (dk_at dksX14_canThrow_5 6 rfl rfl)
theorem dX14_canThrow_125 : decode cX14_canThrow 125 = .ok (.ireturn, 1) := dk_172 (dk_at dksX14_canThrow_5 7 rfl rfl)
abbrev cX14_hooks : ByteArray := prog_23_method_73_code
def yX14_hooks : MethodName := ⟨RX14, "hooks", "(I)I"⟩
def dkwX14_hooks_6 : List UInt8 := [28, 46, 79, 132, 2, 1, 167, 255, 236, 42, 180, 1, 158, 172]
abbrev dktX14_hooks_6 : List UInt8 := dkwX14_hooks_6 ++ []
def dkwX14_hooks_5 : List UInt8 := [182, 1, 161, 42, 27, 181, 1, 164, 3, 61, 28, 27, 162, 0, 21, 42, 180, 0, 102, 28, 42, 180, 0, 99]
abbrev dktX14_hooks_5 : List UInt8 := dkwX14_hooks_5 ++ dktX14_hooks_6
def dkwX14_hooks_4 : List UInt8 := [42, 180, 0, 7, 28, 46, 79, 132, 2, 1, 167, 255, 199, 42, 2, 181, 1, 158, 42, 3, 27, 3]
abbrev dktX14_hooks_4 : List UInt8 := dkwX14_hooks_4 ++ dktX14_hooks_5
def dkwX14_hooks_3 : List UInt8 := [42, 180, 0, 7, 28, 46, 42, 180, 0, 7, 28, 4, 100, 46, 163, 0, 5, 2, 172, 42, 180, 0, 93, 28]
abbrev dktX14_hooks_3 : List UInt8 := dkwX14_hooks_3 ++ dktX14_hooks_4
def dkwX14_hooks_2 : List UInt8 := [61, 28, 42, 180, 1, 155, 162, 0, 55, 42, 180, 0, 7, 28, 46, 16, 99, 163, 0, 24, 28, 158, 0, 22]
abbrev dktX14_hooks_2 : List UInt8 := dkwX14_hooks_2 ++ dktX14_hooks_3
def dkwX14_hooks_1 : List UInt8 := [153, 0, 21, 27, 4, 16, 6, 184, 0, 219, 153, 0, 11, 27, 42, 180, 1, 155, 164, 0, 5, 2, 172, 3]
abbrev dktX14_hooks_1 : List UInt8 := dkwX14_hooks_1 ++ dktX14_hooks_2
def dkwX14_hooks_0 : List UInt8 := [42, 3, 181, 0, 148, 42, 42, 182, 0, 235, 181, 1, 155, 42, 180, 1, 155, 4, 16, 12, 184, 0, 219]
abbrev dktX14_hooks_0 : List UInt8 := dkwX14_hooks_0 ++ dktX14_hooks_1
theorem dksX14_hooks_0 : cX14_hooks.data.toList.drop 0 = dktX14_hooks_0 := by decide +kernel
theorem dksX14_hooks_1 : cX14_hooks.data.toList.drop 23 = dktX14_hooks_1 := dk_seg dksX14_hooks_0 23 rfl rfl
theorem dksX14_hooks_2 : cX14_hooks.data.toList.drop 47 = dktX14_hooks_2 := dk_seg dksX14_hooks_1 24 rfl rfl
theorem dksX14_hooks_3 : cX14_hooks.data.toList.drop 71 = dktX14_hooks_3 := dk_seg dksX14_hooks_2 24 rfl rfl
theorem dksX14_hooks_4 : cX14_hooks.data.toList.drop 95 = dktX14_hooks_4 := dk_seg dksX14_hooks_3 24 rfl rfl
theorem dksX14_hooks_5 : cX14_hooks.data.toList.drop 117 = dktX14_hooks_5 := dk_seg dksX14_hooks_4 22 rfl rfl
theorem dksX14_hooks_6 : cX14_hooks.data.toList.drop 141 = dktX14_hooks_6 := dk_seg dksX14_hooks_5 24 rfl rfl
theorem dX14_hooks_0 : decode cX14_hooks 0 = .ok (.aload_n 0, 1) := dk_42 (dk_at dksX14_hooks_0 0 rfl rfl)
theorem dX14_hooks_1 : decode cX14_hooks 1 = .ok (.iconst 0, 1) := dk_3 (dk_at dksX14_hooks_0 1 rfl rfl)
theorem dX14_hooks_2 : decode cX14_hooks 2 = .ok (.putfield 148, 3) := dk_181 0 148 (dk_at dksX14_hooks_0 2 rfl rfl)
theorem dX14_hooks_5 : decode cX14_hooks 5 = .ok (.aload_n 0, 1) := dk_42 (dk_at dksX14_hooks_0 5 rfl rfl)
theorem dX14_hooks_6 : decode cX14_hooks 6 = .ok (.aload_n 0, 1) := dk_42 (dk_at dksX14_hooks_0 6 rfl rfl)
theorem dX14_hooks_7 : decode cX14_hooks 7 = .ok (.invokevirtual 235, 3) := dk_182 0 235 (dk_at dksX14_hooks_0 7 rfl rfl)
theorem dX14_hooks_10 : decode cX14_hooks 10 = .ok (.putfield 411, 3) := dk_181 1 155 (dk_at dksX14_hooks_0 10 rfl rfl)
theorem dX14_hooks_13 : decode cX14_hooks 13 = .ok (.aload_n 0, 1) := dk_42 (dk_at dksX14_hooks_0 13 rfl rfl)
theorem dX14_hooks_14 : decode cX14_hooks 14 = .ok (.getfield 411, 3) := dk_180 1 155 (dk_at dksX14_hooks_0 14 rfl rfl)
theorem dX14_hooks_17 : decode cX14_hooks 17 = .ok (.iconst 1, 1) := dk_4 (dk_at dksX14_hooks_0 17 rfl rfl)
theorem dX14_hooks_18 : decode cX14_hooks 18 = .ok (.bipush 12, 2) := dk_16 12 (dk_at dksX14_hooks_0 18 rfl rfl)
theorem dX14_hooks_20 : decode cX14_hooks 20 = .ok (.invokestatic 219, 3) := dk_184 0 219 (dk_at dksX14_hooks_0 20 rfl rfl)
theorem dX14_hooks_23 : decode cX14_hooks 23 = .ok (.ifCond .eq 21, 3) := dk_153 0 21 (dk_at dksX14_hooks_1 0 rfl rfl)
theorem dX14_hooks_26 : decode cX14_hooks 26 = .ok (.iload_n 1, 1) := dk_27 (dk_at dksX14_hooks_1 3 rfl rfl)
theorem dX14_hooks_27 : decode cX14_hooks 27 = .ok (.iconst 1, 1) := dk_4 (dk_at dksX14_hooks_1 4 rfl rfl)
theorem dX14_hooks_28 : decode cX14_hooks 28 = .ok (.bipush 6, 2) := dk_16 6 (dk_at dksX14_hooks_1 5 rfl rfl)
theorem dX14_hooks_30 : decode cX14_hooks 30 = .ok (.invokestatic 219, 3) := dk_184 0 219 (dk_at dksX14_hooks_1 7 rfl rfl)
theorem dX14_hooks_33 : decode cX14_hooks 33 = .ok (.ifCond .eq 11, 3) := dk_153 0 11 (dk_at dksX14_hooks_1 10 rfl rfl)
theorem dX14_hooks_36 : decode cX14_hooks 36 = .ok (.iload_n 1, 1) := dk_27 (dk_at dksX14_hooks_1 13 rfl rfl)
theorem dX14_hooks_37 : decode cX14_hooks 37 = .ok (.aload_n 0, 1) := dk_42 (dk_at dksX14_hooks_1 14 rfl rfl)
theorem dX14_hooks_38 : decode cX14_hooks 38 = .ok (.getfield 411, 3) := dk_180 1 155 (dk_at dksX14_hooks_1 15 rfl rfl)
theorem dX14_hooks_41 : decode cX14_hooks 41 = .ok (.if_icmp .le 5, 3) := dk_164 0 5 (dk_at dksX14_hooks_1 18 rfl rfl)
theorem dX14_hooks_44 : decode cX14_hooks 44 = .ok (.iconst (-1), 1) := dk_2 (dk_at dksX14_hooks_1 21 rfl rfl)
theorem dX14_hooks_45 : decode cX14_hooks 45 = .ok (.ireturn, 1) := dk_172 (dk_at dksX14_hooks_1 22 rfl rfl)
theorem dX14_hooks_46 : decode cX14_hooks 46 = .ok (.iconst 0, 1) := dk_3 (dk_at dksX14_hooks_1 23 rfl rfl)
theorem dX14_hooks_47 : decode cX14_hooks 47 = .ok (.istore_n 2, 1) := dk_61 (dk_at dksX14_hooks_2 0 rfl rfl)
theorem dX14_hooks_48 : decode cX14_hooks 48 = .ok (.iload_n 2, 1) := dk_28 (dk_at dksX14_hooks_2 1 rfl rfl)
theorem dX14_hooks_49 : decode cX14_hooks 49 = .ok (.aload_n 0, 1) := dk_42 (dk_at dksX14_hooks_2 2 rfl rfl)
theorem dX14_hooks_50 : decode cX14_hooks 50 = .ok (.getfield 411, 3) := dk_180 1 155 (dk_at dksX14_hooks_2 3 rfl rfl)
theorem dX14_hooks_53 : decode cX14_hooks 53 = .ok (.if_icmp .ge 55, 3) := dk_162 0 55 (dk_at dksX14_hooks_2 6 rfl rfl)
theorem dX14_hooks_56 : decode cX14_hooks 56 = .ok (.aload_n 0, 1) := dk_42 (dk_at dksX14_hooks_2 9 rfl rfl)
theorem dX14_hooks_57 : decode cX14_hooks 57 = .ok (.getfield 7, 3) := dk_180 0 7 (dk_at dksX14_hooks_2 10 rfl rfl)
theorem dX14_hooks_60 : decode cX14_hooks 60 = .ok (.iload_n 2, 1) := dk_28 (dk_at dksX14_hooks_2 13 rfl rfl)
theorem dX14_hooks_61 : decode cX14_hooks 61 = .ok (.iaload, 1) := dk_46 (dk_at dksX14_hooks_2 14 rfl rfl)
theorem dX14_hooks_62 : decode cX14_hooks 62 = .ok (.bipush 99, 2) := dk_16 99 (dk_at dksX14_hooks_2 15 rfl rfl)
theorem dX14_hooks_64 : decode cX14_hooks 64 = .ok (.if_icmp .gt 24, 3) := dk_163 0 24 (dk_at dksX14_hooks_2 17 rfl rfl)
theorem dX14_hooks_67 : decode cX14_hooks 67 = .ok (.iload_n 2, 1) := dk_28 (dk_at dksX14_hooks_2 20 rfl rfl)
theorem dX14_hooks_68 : decode cX14_hooks 68 = .ok (.ifCond .le 22, 3) := dk_158 0 22 (dk_at dksX14_hooks_2 21 rfl rfl)
theorem dX14_hooks_71 : decode cX14_hooks 71 = .ok (.aload_n 0, 1) := dk_42 (dk_at dksX14_hooks_3 0 rfl rfl)
theorem dX14_hooks_72 : decode cX14_hooks 72 = .ok (.getfield 7, 3) := dk_180 0 7 (dk_at dksX14_hooks_3 1 rfl rfl)
theorem dX14_hooks_75 : decode cX14_hooks 75 = .ok (.iload_n 2, 1) := dk_28 (dk_at dksX14_hooks_3 4 rfl rfl)
theorem dX14_hooks_76 : decode cX14_hooks 76 = .ok (.iaload, 1) := dk_46 (dk_at dksX14_hooks_3 5 rfl rfl)
theorem dX14_hooks_77 : decode cX14_hooks 77 = .ok (.aload_n 0, 1) := dk_42 (dk_at dksX14_hooks_3 6 rfl rfl)
theorem dX14_hooks_78 : decode cX14_hooks 78 = .ok (.getfield 7, 3) := dk_180 0 7 (dk_at dksX14_hooks_3 7 rfl rfl)
theorem dX14_hooks_81 : decode cX14_hooks 81 = .ok (.iload_n 2, 1) := dk_28 (dk_at dksX14_hooks_3 10 rfl rfl)
theorem dX14_hooks_82 : decode cX14_hooks 82 = .ok (.iconst 1, 1) := dk_4 (dk_at dksX14_hooks_3 11 rfl rfl)
theorem dX14_hooks_83 : decode cX14_hooks 83 = .ok (.isub, 1) := dk_100 (dk_at dksX14_hooks_3 12 rfl rfl)
theorem dX14_hooks_84 : decode cX14_hooks 84 = .ok (.iaload, 1) := dk_46 (dk_at dksX14_hooks_3 13 rfl rfl)
theorem dX14_hooks_85 : decode cX14_hooks 85 = .ok (.if_icmp .gt 5, 3) := dk_163 0 5 (dk_at dksX14_hooks_3 14 rfl rfl)
theorem dX14_hooks_88 : decode cX14_hooks 88 = .ok (.iconst (-1), 1) := dk_2 (dk_at dksX14_hooks_3 17 rfl rfl)
theorem dX14_hooks_89 : decode cX14_hooks 89 = .ok (.ireturn, 1) := dk_172 (dk_at dksX14_hooks_3 18 rfl rfl)
theorem dX14_hooks_90 : decode cX14_hooks 90 = .ok (.aload_n 0, 1) := dk_42 (dk_at dksX14_hooks_3 19 rfl rfl)
theorem dX14_hooks_91 : decode cX14_hooks 91 = .ok (.getfield 93, 3) := dk_180 0 93 (dk_at dksX14_hooks_3 20 rfl rfl)
theorem dX14_hooks_94 : decode cX14_hooks 94 = .ok (.iload_n 2, 1) := dk_28 (dk_at dksX14_hooks_3 23 rfl rfl)
theorem dX14_hooks_95 : decode cX14_hooks 95 = .ok (.aload_n 0, 1) := dk_42 (dk_at dksX14_hooks_4 0 rfl rfl)
theorem dX14_hooks_96 : decode cX14_hooks 96 = .ok (.getfield 7, 3) := dk_180 0 7 (dk_at dksX14_hooks_4 1 rfl rfl)
theorem dX14_hooks_99 : decode cX14_hooks 99 = .ok (.iload_n 2, 1) := dk_28 (dk_at dksX14_hooks_4 4 rfl rfl)
theorem dX14_hooks_100 : decode cX14_hooks 100 = .ok (.iaload, 1) := dk_46 (dk_at dksX14_hooks_4 5 rfl rfl)
theorem dX14_hooks_101 : decode cX14_hooks 101 = .ok (.iastore, 1) := dk_79 (dk_at dksX14_hooks_4 6 rfl rfl)
theorem dX14_hooks_102 : decode cX14_hooks 102 = .ok (.iinc 2 1, 3) := dk_132 2 1 (dk_at dksX14_hooks_4 7 rfl rfl)
theorem dX14_hooks_105 : decode cX14_hooks 105 = .ok (.goto (-57), 3) := dk_167 255 199 (dk_at dksX14_hooks_4 10 rfl rfl)
theorem dX14_hooks_108 : decode cX14_hooks 108 = .ok (.aload_n 0, 1) := dk_42 (dk_at dksX14_hooks_4 13 rfl rfl)
theorem dX14_hooks_109 : decode cX14_hooks 109 = .ok (.iconst (-1), 1) := dk_2 (dk_at dksX14_hooks_4 14 rfl rfl)
theorem dX14_hooks_110 : decode cX14_hooks 110 = .ok (.putfield 414, 3) := dk_181 1 158 (dk_at dksX14_hooks_4 15 rfl rfl)
theorem dX14_hooks_113 : decode cX14_hooks 113 = .ok (.aload_n 0, 1) := dk_42 (dk_at dksX14_hooks_4 18 rfl rfl)
theorem dX14_hooks_114 : decode cX14_hooks 114 = .ok (.iconst 0, 1) := dk_3 (dk_at dksX14_hooks_4 19 rfl rfl)
theorem dX14_hooks_115 : decode cX14_hooks 115 = .ok (.iload_n 1, 1) := dk_27 (dk_at dksX14_hooks_4 20 rfl rfl)
theorem dX14_hooks_116 : decode cX14_hooks 116 = .ok (.iconst 0, 1) := dk_3 (dk_at dksX14_hooks_4 21 rfl rfl)
theorem dX14_hooks_117 : decode cX14_hooks 117 = .ok (.invokevirtual 417, 3) := dk_182 1 161 (dk_at dksX14_hooks_5 0 rfl rfl)
theorem dX14_hooks_120 : decode cX14_hooks 120 = .ok (.aload_n 0, 1) := dk_42 (dk_at dksX14_hooks_5 3 rfl rfl)
theorem dX14_hooks_121 : decode cX14_hooks 121 = .ok (.iload_n 1, 1) := dk_27 (dk_at dksX14_hooks_5 4 rfl rfl)
theorem dX14_hooks_122 : decode cX14_hooks 122 = .ok (.putfield 420, 3) := dk_181 1 164 (dk_at dksX14_hooks_5 5 rfl rfl)
theorem dX14_hooks_125 : decode cX14_hooks 125 = .ok (.iconst 0, 1) := dk_3 (dk_at dksX14_hooks_5 8 rfl rfl)
theorem dX14_hooks_126 : decode cX14_hooks 126 = .ok (.istore_n 2, 1) := dk_61 (dk_at dksX14_hooks_5 9 rfl rfl)
theorem dX14_hooks_127 : decode cX14_hooks 127 = .ok (.iload_n 2, 1) := dk_28 (dk_at dksX14_hooks_5 10 rfl rfl)
theorem dX14_hooks_128 : decode cX14_hooks 128 = .ok (.iload_n 1, 1) := dk_27 (dk_at dksX14_hooks_5 11 rfl rfl)
theorem dX14_hooks_129 : decode cX14_hooks 129 = .ok (.if_icmp .ge 21, 3) := dk_162 0 21 (dk_at dksX14_hooks_5 12 rfl rfl)
theorem dX14_hooks_132 : decode cX14_hooks 132 = .ok (.aload_n 0, 1) := dk_42 (dk_at dksX14_hooks_5 15 rfl rfl)
theorem dX14_hooks_133 : decode cX14_hooks 133 = .ok (.getfield 102, 3) := dk_180 0 102 (dk_at dksX14_hooks_5 16 rfl rfl)
theorem dX14_hooks_136 : decode cX14_hooks 136 = .ok (.iload_n 2, 1) := dk_28 (dk_at dksX14_hooks_5 19 rfl rfl)
theorem dX14_hooks_137 : decode cX14_hooks 137 = .ok (.aload_n 0, 1) := dk_42 (dk_at dksX14_hooks_5 20 rfl rfl)
theorem dX14_hooks_138 : decode cX14_hooks 138 = .ok (.getfield 99, 3) := dk_180 0 99 (dk_at dksX14_hooks_5 21 rfl rfl)
theorem dX14_hooks_141 : decode cX14_hooks 141 = .ok (.iload_n 2, 1) := dk_28 (dk_at dksX14_hooks_6 0 rfl rfl)
theorem dX14_hooks_142 : decode cX14_hooks 142 = .ok (.iaload, 1) := dk_46 (dk_at dksX14_hooks_6 1 rfl rfl)
theorem dX14_hooks_143 : decode cX14_hooks 143 = .ok (.iastore, 1) := dk_79 (dk_at dksX14_hooks_6 2 rfl rfl)
theorem dX14_hooks_144 : decode cX14_hooks 144 = .ok (.iinc 2 1, 3) := dk_132 2 1 (dk_at dksX14_hooks_6 3 rfl rfl)
theorem dX14_hooks_147 : decode cX14_hooks 147 = .ok (.goto (-20), 3) := dk_167 255 236 (dk_at dksX14_hooks_6 6 rfl rfl)
theorem dX14_hooks_150 : decode cX14_hooks 150 = .ok (.aload_n 0, 1) := dk_42 (dk_at dksX14_hooks_6 9 rfl rfl)
theorem dX14_hooks_151 : decode cX14_hooks 151 = .ok (.getfield 414, 3) := dk_180 1 158 (dk_at dksX14_hooks_6 10 rfl rfl)
theorem dX14_hooks_154 : decode cX14_hooks 154 = .ok (.ireturn, 1) := dk_172 (dk_at dksX14_hooks_6 13 rfl rfl)
abbrev cX14_tryHooks : ByteArray := prog_23_method_72_code
def yX14_tryHooks : MethodName := ⟨RX14, "tryHooks", "(III)V"⟩
def dkwX14_tryHooks_8 : List UInt8 := [132, 4, 1, 167, 255, 219, 177]
abbrev dktX14_tryHooks_8 : List UInt8 := dkwX14_tryHooks_8 ++ []
def dkwX14_tryHooks_7 : List UInt8 := [180, 0, 96, 27, 42, 180, 0, 93, 21, 4, 46, 79, 42, 27, 4, 96, 28, 21, 4, 4, 96, 182, 1, 161]
abbrev dktX14_tryHooks_7 : List UInt8 := dkwX14_tryHooks_7 ++ dktX14_tryHooks_8
def dkwX14_tryHooks_6 : List UInt8 := [46, 79, 132, 5, 1, 167, 255, 233, 177, 29, 54, 4, 21, 4, 42, 180, 1, 155, 162, 0, 34, 42]
abbrev dktX14_tryHooks_6 : List UInt8 := dkwX14_tryHooks_6 ++ dktX14_tryHooks_7
def dkwX14_tryHooks_5 : List UInt8 := [181, 1, 158, 3, 54, 5, 21, 5, 28, 162, 0, 23, 42, 180, 0, 99, 21, 5, 42, 180, 0, 96, 21, 5]
abbrev dktX14_tryHooks_5 : List UInt8 := dkwX14_tryHooks_5 ++ dktX14_tryHooks_6
def dkwX14_tryHooks_4 : List UInt8 := [167, 255, 175, 42, 180, 1, 158, 2, 159, 0, 13, 21, 4, 42, 180, 1, 158, 161, 0, 4, 177, 42, 21, 4]
abbrev dktX14_tryHooks_4 : List UInt8 := dkwX14_tryHooks_4 ++ dktX14_tryHooks_5
def dkwX14_tryHooks_3 : List UInt8 := [54, 6, 132, 7, 1, 167, 255, 209, 21, 6, 21, 4, 164, 0, 7, 21, 6, 54, 4, 132, 5, 1]
abbrev dktX14_tryHooks_3 : List UInt8 := dkwX14_tryHooks_3 ++ dktX14_tryHooks_4
def dkwX14_tryHooks_2 : List UInt8 := [46, 100, 54, 8, 21, 8, 156, 0, 8, 21, 8, 116, 54, 8, 21, 8, 21, 6, 162, 0, 7, 21, 8]
abbrev dktX14_tryHooks_2 : List UInt8 := dkwX14_tryHooks_2 ++ dktX14_tryHooks_3
def dkwX14_tryHooks_1 : List UInt8 := [54, 6, 3, 54, 7, 21, 7, 28, 162, 0, 47, 42, 180, 0, 93, 21, 5, 46, 42, 180, 0, 96, 21, 7]
abbrev dktX14_tryHooks_1 : List UInt8 := dkwX14_tryHooks_1 ++ dktX14_tryHooks_2
def dkwX14_tryHooks_0 : List UInt8 := [27, 28, 160, 0, 147, 3, 54, 4, 3, 54, 5, 21, 5, 42, 180, 1, 155, 162, 0, 78, 17, 3, 232]
abbrev dktX14_tryHooks_0 : List UInt8 := dkwX14_tryHooks_0 ++ dktX14_tryHooks_1
theorem dksX14_tryHooks_0 : cX14_tryHooks.data.toList.drop 0 = dktX14_tryHooks_0 := by decide +kernel
theorem dksX14_tryHooks_1 : cX14_tryHooks.data.toList.drop 23 = dktX14_tryHooks_1 := dk_seg dksX14_tryHooks_0 23 rfl rfl
theorem dksX14_tryHooks_2 : cX14_tryHooks.data.toList.drop 47 = dktX14_tryHooks_2 := dk_seg dksX14_tryHooks_1 24 rfl rfl
theorem dksX14_tryHooks_3 : cX14_tryHooks.data.toList.drop 70 = dktX14_tryHooks_3 := dk_seg dksX14_tryHooks_2 23 rfl rfl
theorem dksX14_tryHooks_4 : cX14_tryHooks.data.toList.drop 92 = dktX14_tryHooks_4 := dk_seg dksX14_tryHooks_3 22 rfl rfl
theorem dksX14_tryHooks_5 : cX14_tryHooks.data.toList.drop 116 = dktX14_tryHooks_5 := dk_seg dksX14_tryHooks_4 24 rfl rfl
theorem dksX14_tryHooks_6 : cX14_tryHooks.data.toList.drop 140 = dktX14_tryHooks_6 := dk_seg dksX14_tryHooks_5 24 rfl rfl
theorem dksX14_tryHooks_7 : cX14_tryHooks.data.toList.drop 162 = dktX14_tryHooks_7 := dk_seg dksX14_tryHooks_6 22 rfl rfl
theorem dksX14_tryHooks_8 : cX14_tryHooks.data.toList.drop 186 = dktX14_tryHooks_8 := dk_seg dksX14_tryHooks_7 24 rfl rfl
theorem dX14_tryHooks_0 : decode cX14_tryHooks 0 = .ok (.iload_n 1, 1) := dk_27 (dk_at dksX14_tryHooks_0 0 rfl rfl)
theorem dX14_tryHooks_1 : decode cX14_tryHooks 1 = .ok (.iload_n 2, 1) := dk_28 (dk_at dksX14_tryHooks_0 1 rfl rfl)
theorem dX14_tryHooks_2 : decode cX14_tryHooks 2 = .ok (.if_icmp .ne 147, 3) := dk_160 0 147 (dk_at dksX14_tryHooks_0 2 rfl rfl)
theorem dX14_tryHooks_5 : decode cX14_tryHooks 5 = .ok (.iconst 0, 1) := dk_3 (dk_at dksX14_tryHooks_0 5 rfl rfl)
theorem dX14_tryHooks_6 : decode cX14_tryHooks 6 = .ok (.istore 4, 2) := dk_54 4 (dk_at dksX14_tryHooks_0 6 rfl rfl)
theorem dX14_tryHooks_8 : decode cX14_tryHooks 8 = .ok (.iconst 0, 1) := dk_3 (dk_at dksX14_tryHooks_0 8 rfl rfl)
theorem dX14_tryHooks_9 : decode cX14_tryHooks 9 = .ok (.istore 5, 2) := dk_54 5 (dk_at dksX14_tryHooks_0 9 rfl rfl)
theorem dX14_tryHooks_11 : decode cX14_tryHooks 11 = .ok (.iload 5, 2) := dk_21 5 (dk_at dksX14_tryHooks_0 11 rfl rfl)
theorem dX14_tryHooks_13 : decode cX14_tryHooks 13 = .ok (.aload_n 0, 1) := dk_42 (dk_at dksX14_tryHooks_0 13 rfl rfl)
theorem dX14_tryHooks_14 : decode cX14_tryHooks 14 = .ok (.getfield 411, 3) := dk_180 1 155 (dk_at dksX14_tryHooks_0 14 rfl rfl)
theorem dX14_tryHooks_17 : decode cX14_tryHooks 17 = .ok (.if_icmp .ge 78, 3) := dk_162 0 78 (dk_at dksX14_tryHooks_0 17 rfl rfl)
theorem dX14_tryHooks_20 : decode cX14_tryHooks 20 = .ok (.sipush 1000, 3) := dk_17 3 232 (dk_at dksX14_tryHooks_0 20 rfl rfl)
theorem dX14_tryHooks_23 : decode cX14_tryHooks 23 = .ok (.istore 6, 2) := dk_54 6 (dk_at dksX14_tryHooks_1 0 rfl rfl)
theorem dX14_tryHooks_25 : decode cX14_tryHooks 25 = .ok (.iconst 0, 1) := dk_3 (dk_at dksX14_tryHooks_1 2 rfl rfl)
theorem dX14_tryHooks_26 : decode cX14_tryHooks 26 = .ok (.istore 7, 2) := dk_54 7 (dk_at dksX14_tryHooks_1 3 rfl rfl)
theorem dX14_tryHooks_28 : decode cX14_tryHooks 28 = .ok (.iload 7, 2) := dk_21 7 (dk_at dksX14_tryHooks_1 5 rfl rfl)
theorem dX14_tryHooks_30 : decode cX14_tryHooks 30 = .ok (.iload_n 2, 1) := dk_28 (dk_at dksX14_tryHooks_1 7 rfl rfl)
theorem dX14_tryHooks_31 : decode cX14_tryHooks 31 = .ok (.if_icmp .ge 47, 3) := dk_162 0 47 (dk_at dksX14_tryHooks_1 8 rfl rfl)
theorem dX14_tryHooks_34 : decode cX14_tryHooks 34 = .ok (.aload_n 0, 1) := dk_42 (dk_at dksX14_tryHooks_1 11 rfl rfl)
theorem dX14_tryHooks_35 : decode cX14_tryHooks 35 = .ok (.getfield 93, 3) := dk_180 0 93 (dk_at dksX14_tryHooks_1 12 rfl rfl)
theorem dX14_tryHooks_38 : decode cX14_tryHooks 38 = .ok (.iload 5, 2) := dk_21 5 (dk_at dksX14_tryHooks_1 15 rfl rfl)
theorem dX14_tryHooks_40 : decode cX14_tryHooks 40 = .ok (.iaload, 1) := dk_46 (dk_at dksX14_tryHooks_1 17 rfl rfl)
theorem dX14_tryHooks_41 : decode cX14_tryHooks 41 = .ok (.aload_n 0, 1) := dk_42 (dk_at dksX14_tryHooks_1 18 rfl rfl)
theorem dX14_tryHooks_42 : decode cX14_tryHooks 42 = .ok (.getfield 96, 3) := dk_180 0 96 (dk_at dksX14_tryHooks_1 19 rfl rfl)
theorem dX14_tryHooks_45 : decode cX14_tryHooks 45 = .ok (.iload 7, 2) := dk_21 7 (dk_at dksX14_tryHooks_1 22 rfl rfl)
theorem dX14_tryHooks_47 : decode cX14_tryHooks 47 = .ok (.iaload, 1) := dk_46 (dk_at dksX14_tryHooks_2 0 rfl rfl)
theorem dX14_tryHooks_48 : decode cX14_tryHooks 48 = .ok (.isub, 1) := dk_100 (dk_at dksX14_tryHooks_2 1 rfl rfl)
theorem dX14_tryHooks_49 : decode cX14_tryHooks 49 = .ok (.istore 8, 2) := dk_54 8 (dk_at dksX14_tryHooks_2 2 rfl rfl)
theorem dX14_tryHooks_51 : decode cX14_tryHooks 51 = .ok (.iload 8, 2) := dk_21 8 (dk_at dksX14_tryHooks_2 4 rfl rfl)
theorem dX14_tryHooks_53 : decode cX14_tryHooks 53 = .ok (.ifCond .ge 8, 3) := dk_156 0 8 (dk_at dksX14_tryHooks_2 6 rfl rfl)
theorem dX14_tryHooks_56 : decode cX14_tryHooks 56 = .ok (.iload 8, 2) := dk_21 8 (dk_at dksX14_tryHooks_2 9 rfl rfl)
theorem dX14_tryHooks_58 : decode cX14_tryHooks 58 = .ok (.ineg, 1) := dk_116 (dk_at dksX14_tryHooks_2 11 rfl rfl)
theorem dX14_tryHooks_59 : decode cX14_tryHooks 59 = .ok (.istore 8, 2) := dk_54 8 (dk_at dksX14_tryHooks_2 12 rfl rfl)
theorem dX14_tryHooks_61 : decode cX14_tryHooks 61 = .ok (.iload 8, 2) := dk_21 8 (dk_at dksX14_tryHooks_2 14 rfl rfl)
theorem dX14_tryHooks_63 : decode cX14_tryHooks 63 = .ok (.iload 6, 2) := dk_21 6 (dk_at dksX14_tryHooks_2 16 rfl rfl)
theorem dX14_tryHooks_65 : decode cX14_tryHooks 65 = .ok (.if_icmp .ge 7, 3) := dk_162 0 7 (dk_at dksX14_tryHooks_2 18 rfl rfl)
theorem dX14_tryHooks_68 : decode cX14_tryHooks 68 = .ok (.iload 8, 2) := dk_21 8 (dk_at dksX14_tryHooks_2 21 rfl rfl)
theorem dX14_tryHooks_70 : decode cX14_tryHooks 70 = .ok (.istore 6, 2) := dk_54 6 (dk_at dksX14_tryHooks_3 0 rfl rfl)
theorem dX14_tryHooks_72 : decode cX14_tryHooks 72 = .ok (.iinc 7 1, 3) := dk_132 7 1 (dk_at dksX14_tryHooks_3 2 rfl rfl)
theorem dX14_tryHooks_75 : decode cX14_tryHooks 75 = .ok (.goto (-47), 3) := dk_167 255 209 (dk_at dksX14_tryHooks_3 5 rfl rfl)
theorem dX14_tryHooks_78 : decode cX14_tryHooks 78 = .ok (.iload 6, 2) := dk_21 6 (dk_at dksX14_tryHooks_3 8 rfl rfl)
theorem dX14_tryHooks_80 : decode cX14_tryHooks 80 = .ok (.iload 4, 2) := dk_21 4 (dk_at dksX14_tryHooks_3 10 rfl rfl)
theorem dX14_tryHooks_82 : decode cX14_tryHooks 82 = .ok (.if_icmp .le 7, 3) := dk_164 0 7 (dk_at dksX14_tryHooks_3 12 rfl rfl)
theorem dX14_tryHooks_85 : decode cX14_tryHooks 85 = .ok (.iload 6, 2) := dk_21 6 (dk_at dksX14_tryHooks_3 15 rfl rfl)
theorem dX14_tryHooks_87 : decode cX14_tryHooks 87 = .ok (.istore 4, 2) := dk_54 4 (dk_at dksX14_tryHooks_3 17 rfl rfl)
theorem dX14_tryHooks_89 : decode cX14_tryHooks 89 = .ok (.iinc 5 1, 3) := dk_132 5 1 (dk_at dksX14_tryHooks_3 19 rfl rfl)
theorem dX14_tryHooks_92 : decode cX14_tryHooks 92 = .ok (.goto (-81), 3) := dk_167 255 175 (dk_at dksX14_tryHooks_4 0 rfl rfl)
theorem dX14_tryHooks_95 : decode cX14_tryHooks 95 = .ok (.aload_n 0, 1) := dk_42 (dk_at dksX14_tryHooks_4 3 rfl rfl)
theorem dX14_tryHooks_96 : decode cX14_tryHooks 96 = .ok (.getfield 414, 3) := dk_180 1 158 (dk_at dksX14_tryHooks_4 4 rfl rfl)
theorem dX14_tryHooks_99 : decode cX14_tryHooks 99 = .ok (.iconst (-1), 1) := dk_2 (dk_at dksX14_tryHooks_4 7 rfl rfl)
theorem dX14_tryHooks_100 : decode cX14_tryHooks 100 = .ok (.if_icmp .eq 13, 3) := dk_159 0 13 (dk_at dksX14_tryHooks_4 8 rfl rfl)
theorem dX14_tryHooks_103 : decode cX14_tryHooks 103 = .ok (.iload 4, 2) := dk_21 4 (dk_at dksX14_tryHooks_4 11 rfl rfl)
theorem dX14_tryHooks_105 : decode cX14_tryHooks 105 = .ok (.aload_n 0, 1) := dk_42 (dk_at dksX14_tryHooks_4 13 rfl rfl)
theorem dX14_tryHooks_106 : decode cX14_tryHooks 106 = .ok (.getfield 414, 3) := dk_180 1 158 (dk_at dksX14_tryHooks_4 14 rfl rfl)
theorem dX14_tryHooks_109 : decode cX14_tryHooks 109 = .ok (.if_icmp .lt 4, 3) := dk_161 0 4 (dk_at dksX14_tryHooks_4 17 rfl rfl)
theorem dX14_tryHooks_112 : decode cX14_tryHooks 112 = .ok (.return_, 1) := dk_177 (dk_at dksX14_tryHooks_4 20 rfl rfl)
theorem dX14_tryHooks_113 : decode cX14_tryHooks 113 = .ok (.aload_n 0, 1) := dk_42 (dk_at dksX14_tryHooks_4 21 rfl rfl)
theorem dX14_tryHooks_114 : decode cX14_tryHooks 114 = .ok (.iload 4, 2) := dk_21 4 (dk_at dksX14_tryHooks_4 22 rfl rfl)
theorem dX14_tryHooks_116 : decode cX14_tryHooks 116 = .ok (.putfield 414, 3) := dk_181 1 158 (dk_at dksX14_tryHooks_5 0 rfl rfl)
theorem dX14_tryHooks_119 : decode cX14_tryHooks 119 = .ok (.iconst 0, 1) := dk_3 (dk_at dksX14_tryHooks_5 3 rfl rfl)
theorem dX14_tryHooks_120 : decode cX14_tryHooks 120 = .ok (.istore 5, 2) := dk_54 5 (dk_at dksX14_tryHooks_5 4 rfl rfl)
theorem dX14_tryHooks_122 : decode cX14_tryHooks 122 = .ok (.iload 5, 2) := dk_21 5 (dk_at dksX14_tryHooks_5 6 rfl rfl)
theorem dX14_tryHooks_124 : decode cX14_tryHooks 124 = .ok (.iload_n 2, 1) := dk_28 (dk_at dksX14_tryHooks_5 8 rfl rfl)
theorem dX14_tryHooks_125 : decode cX14_tryHooks 125 = .ok (.if_icmp .ge 23, 3) := dk_162 0 23 (dk_at dksX14_tryHooks_5 9 rfl rfl)
theorem dX14_tryHooks_128 : decode cX14_tryHooks 128 = .ok (.aload_n 0, 1) := dk_42 (dk_at dksX14_tryHooks_5 12 rfl rfl)
theorem dX14_tryHooks_129 : decode cX14_tryHooks 129 = .ok (.getfield 99, 3) := dk_180 0 99 (dk_at dksX14_tryHooks_5 13 rfl rfl)
theorem dX14_tryHooks_132 : decode cX14_tryHooks 132 = .ok (.iload 5, 2) := dk_21 5 (dk_at dksX14_tryHooks_5 16 rfl rfl)
theorem dX14_tryHooks_134 : decode cX14_tryHooks 134 = .ok (.aload_n 0, 1) := dk_42 (dk_at dksX14_tryHooks_5 18 rfl rfl)
theorem dX14_tryHooks_135 : decode cX14_tryHooks 135 = .ok (.getfield 96, 3) := dk_180 0 96 (dk_at dksX14_tryHooks_5 19 rfl rfl)
theorem dX14_tryHooks_138 : decode cX14_tryHooks 138 = .ok (.iload 5, 2) := dk_21 5 (dk_at dksX14_tryHooks_5 22 rfl rfl)
theorem dX14_tryHooks_140 : decode cX14_tryHooks 140 = .ok (.iaload, 1) := dk_46 (dk_at dksX14_tryHooks_6 0 rfl rfl)
theorem dX14_tryHooks_141 : decode cX14_tryHooks 141 = .ok (.iastore, 1) := dk_79 (dk_at dksX14_tryHooks_6 1 rfl rfl)
theorem dX14_tryHooks_142 : decode cX14_tryHooks 142 = .ok (.iinc 5 1, 3) := dk_132 5 1 (dk_at dksX14_tryHooks_6 2 rfl rfl)
theorem dX14_tryHooks_145 : decode cX14_tryHooks 145 = .ok (.goto (-23), 3) := dk_167 255 233 (dk_at dksX14_tryHooks_6 5 rfl rfl)
theorem dX14_tryHooks_148 : decode cX14_tryHooks 148 = .ok (.return_, 1) := dk_177 (dk_at dksX14_tryHooks_6 8 rfl rfl)
theorem dX14_tryHooks_149 : decode cX14_tryHooks 149 = .ok (.iload_n 3, 1) := dk_29 (dk_at dksX14_tryHooks_6 9 rfl rfl)
theorem dX14_tryHooks_150 : decode cX14_tryHooks 150 = .ok (.istore 4, 2) := dk_54 4 (dk_at dksX14_tryHooks_6 10 rfl rfl)
theorem dX14_tryHooks_152 : decode cX14_tryHooks 152 = .ok (.iload 4, 2) := dk_21 4 (dk_at dksX14_tryHooks_6 12 rfl rfl)
theorem dX14_tryHooks_154 : decode cX14_tryHooks 154 = .ok (.aload_n 0, 1) := dk_42 (dk_at dksX14_tryHooks_6 14 rfl rfl)
theorem dX14_tryHooks_155 : decode cX14_tryHooks 155 = .ok (.getfield 411, 3) := dk_180 1 155 (dk_at dksX14_tryHooks_6 15 rfl rfl)
theorem dX14_tryHooks_158 : decode cX14_tryHooks 158 = .ok (.if_icmp .ge 34, 3) := dk_162 0 34 (dk_at dksX14_tryHooks_6 18 rfl rfl)
theorem dX14_tryHooks_161 : decode cX14_tryHooks 161 = .ok (.aload_n 0, 1) := dk_42 (dk_at dksX14_tryHooks_6 21 rfl rfl)
theorem dX14_tryHooks_162 : decode cX14_tryHooks 162 = .ok (.getfield 96, 3) := dk_180 0 96 (dk_at dksX14_tryHooks_7 0 rfl rfl)
theorem dX14_tryHooks_165 : decode cX14_tryHooks 165 = .ok (.iload_n 1, 1) := dk_27 (dk_at dksX14_tryHooks_7 3 rfl rfl)
theorem dX14_tryHooks_166 : decode cX14_tryHooks 166 = .ok (.aload_n 0, 1) := dk_42 (dk_at dksX14_tryHooks_7 4 rfl rfl)
theorem dX14_tryHooks_167 : decode cX14_tryHooks 167 = .ok (.getfield 93, 3) := dk_180 0 93 (dk_at dksX14_tryHooks_7 5 rfl rfl)
theorem dX14_tryHooks_170 : decode cX14_tryHooks 170 = .ok (.iload 4, 2) := dk_21 4 (dk_at dksX14_tryHooks_7 8 rfl rfl)
theorem dX14_tryHooks_172 : decode cX14_tryHooks 172 = .ok (.iaload, 1) := dk_46 (dk_at dksX14_tryHooks_7 10 rfl rfl)
theorem dX14_tryHooks_173 : decode cX14_tryHooks 173 = .ok (.iastore, 1) := dk_79 (dk_at dksX14_tryHooks_7 11 rfl rfl)
theorem dX14_tryHooks_174 : decode cX14_tryHooks 174 = .ok (.aload_n 0, 1) := dk_42 (dk_at dksX14_tryHooks_7 12 rfl rfl)
theorem dX14_tryHooks_175 : decode cX14_tryHooks 175 = .ok (.iload_n 1, 1) := dk_27 (dk_at dksX14_tryHooks_7 13 rfl rfl)
theorem dX14_tryHooks_176 : decode cX14_tryHooks 176 = .ok (.iconst 1, 1) := dk_4 (dk_at dksX14_tryHooks_7 14 rfl rfl)
theorem dX14_tryHooks_177 : decode cX14_tryHooks 177 = .ok (.iadd, 1) := dk_96 (dk_at dksX14_tryHooks_7 15 rfl rfl)
theorem dX14_tryHooks_178 : decode cX14_tryHooks 178 = .ok (.iload_n 2, 1) := dk_28 (dk_at dksX14_tryHooks_7 16 rfl rfl)
theorem dX14_tryHooks_179 : decode cX14_tryHooks 179 = .ok (.iload 4, 2) := dk_21 4 (dk_at dksX14_tryHooks_7 17 rfl rfl)
theorem dX14_tryHooks_181 : decode cX14_tryHooks 181 = .ok (.iconst 1, 1) := dk_4 (dk_at dksX14_tryHooks_7 19 rfl rfl)
theorem dX14_tryHooks_182 : decode cX14_tryHooks 182 = .ok (.iadd, 1) := dk_96 (dk_at dksX14_tryHooks_7 20 rfl rfl)
theorem dX14_tryHooks_183 : decode cX14_tryHooks 183 = .ok (.invokevirtual 417, 3) := dk_182 1 161 (dk_at dksX14_tryHooks_7 21 rfl rfl)
theorem dX14_tryHooks_186 : decode cX14_tryHooks 186 = .ok (.iinc 4 1, 3) := dk_132 4 1 (dk_at dksX14_tryHooks_8 0 rfl rfl)
theorem dX14_tryHooks_189 : decode cX14_tryHooks 189 = .ok (.goto (-37), 3) := dk_167 255 219 (dk_at dksX14_tryHooks_8 3 rfl rfl)
theorem dX14_tryHooks_192 : decode cX14_tryHooks 192 = .ok (.return_, 1) := dk_177 (dk_at dksX14_tryHooks_8 6 rfl rfl)
abbrev cX14_hookAt : ByteArray := prog_23_method_74_code
def yX14_hookAt : MethodName := ⟨RX14, "hookAt", "(I)I"⟩
def dkwX14_hookAt_1 : List UInt8 := [167, 0, 4, 2, 172]
abbrev dktX14_hookAt_1 : List UInt8 := dkwX14_hookAt_1 ++ []
def dkwX14_hookAt_0 : List UInt8 := [42, 3, 181, 0, 148, 27, 155, 0, 20, 27, 42, 180, 1, 164, 162, 0, 12, 42, 180, 0, 102, 27, 46]
abbrev dktX14_hookAt_0 : List UInt8 := dkwX14_hookAt_0 ++ dktX14_hookAt_1
theorem dksX14_hookAt_0 : cX14_hookAt.data.toList.drop 0 = dktX14_hookAt_0 := by decide +kernel
theorem dksX14_hookAt_1 : cX14_hookAt.data.toList.drop 23 = dktX14_hookAt_1 := dk_seg dksX14_hookAt_0 23 rfl rfl
theorem dX14_hookAt_0 : decode cX14_hookAt 0 = .ok (.aload_n 0, 1) := dk_42 (dk_at dksX14_hookAt_0 0 rfl rfl)
theorem dX14_hookAt_1 : decode cX14_hookAt 1 = .ok (.iconst 0, 1) := dk_3 (dk_at dksX14_hookAt_0 1 rfl rfl)
theorem dX14_hookAt_2 : decode cX14_hookAt 2 = .ok (.putfield 148, 3) := dk_181 0 148 (dk_at dksX14_hookAt_0 2 rfl rfl)
theorem dX14_hookAt_5 : decode cX14_hookAt 5 = .ok (.iload_n 1, 1) := dk_27 (dk_at dksX14_hookAt_0 5 rfl rfl)
theorem dX14_hookAt_6 : decode cX14_hookAt 6 = .ok (.ifCond .lt 20, 3) := dk_155 0 20 (dk_at dksX14_hookAt_0 6 rfl rfl)
theorem dX14_hookAt_9 : decode cX14_hookAt 9 = .ok (.iload_n 1, 1) := dk_27 (dk_at dksX14_hookAt_0 9 rfl rfl)
theorem dX14_hookAt_10 : decode cX14_hookAt 10 = .ok (.aload_n 0, 1) := dk_42 (dk_at dksX14_hookAt_0 10 rfl rfl)
theorem dX14_hookAt_11 : decode cX14_hookAt 11 = .ok (.getfield 420, 3) := dk_180 1 164 (dk_at dksX14_hookAt_0 11 rfl rfl)
theorem dX14_hookAt_14 : decode cX14_hookAt 14 = .ok (.if_icmp .ge 12, 3) := dk_162 0 12 (dk_at dksX14_hookAt_0 14 rfl rfl)
theorem dX14_hookAt_17 : decode cX14_hookAt 17 = .ok (.aload_n 0, 1) := dk_42 (dk_at dksX14_hookAt_0 17 rfl rfl)
theorem dX14_hookAt_18 : decode cX14_hookAt 18 = .ok (.getfield 102, 3) := dk_180 0 102 (dk_at dksX14_hookAt_0 18 rfl rfl)
theorem dX14_hookAt_21 : decode cX14_hookAt 21 = .ok (.iload_n 1, 1) := dk_27 (dk_at dksX14_hookAt_0 21 rfl rfl)
theorem dX14_hookAt_22 : decode cX14_hookAt 22 = .ok (.iaload, 1) := dk_46 (dk_at dksX14_hookAt_0 22 rfl rfl)
theorem dX14_hookAt_23 : decode cX14_hookAt 23 = .ok (.goto 4, 3) := dk_167 0 4 (dk_at dksX14_hookAt_1 0 rfl rfl)
theorem dX14_hookAt_26 : decode cX14_hookAt 26 = .ok (.iconst (-1), 1) := dk_2 (dk_at dksX14_hookAt_1 3 rfl rfl)
theorem dX14_hookAt_27 : decode cX14_hookAt 27 = .ok (.ireturn, 1) := dk_172 (dk_at dksX14_hookAt_1 4 rfl rfl)
abbrev cX14_fire : ByteArray := prog_23_method_83_code
def yX14_fire : MethodName := ⟨RX14, "fire", "(IIII)I"⟩
def dkwX14_fire_7 : List UInt8 := [167, 255, 192, 42, 180, 1, 167, 172]
abbrev dktX14_fire_7 : List UInt8 := dkwX14_fire_7 ++ []
def dkwX14_fire_6 : List UInt8 := [79, 42, 180, 0, 123, 6, 21, 5, 104, 5, 96, 42, 180, 0, 111, 21, 5, 46, 79, 132, 5, 1]
abbrev dktX14_fire_6 : List UInt8 := dkwX14_fire_6 ++ dktX14_fire_7
def dkwX14_fire_5 : List UInt8 := [180, 0, 105, 21, 5, 46, 79, 42, 180, 0, 123, 6, 21, 5, 104, 4, 96, 42, 180, 0, 108, 21, 5, 46]
abbrev dktX14_fire_5 : List UInt8 := dkwX14_fire_5 ++ dktX14_fire_6
def dkwX14_fire_4 : List UInt8 := [181, 0, 126, 3, 54, 5, 21, 5, 42, 182, 1, 170, 162, 0, 61, 42, 180, 0, 123, 6, 21, 5, 104, 42]
abbrev dktX14_fire_4 : List UInt8 := dkwX14_fire_4 ++ dktX14_fire_5
def dkwX14_fire_3 : List UInt8 := [42, 182, 1, 42, 181, 1, 205, 42, 42, 180, 0, 13, 16, 10, 46, 181, 1, 208, 42, 42, 180, 1, 183]
abbrev dktX14_fire_3 : List UInt8 := dkwX14_fire_3 ++ dktX14_fire_4
def dkwX14_fire_2 : List UInt8 := [154, 0, 5, 2, 172, 42, 182, 1, 195, 42, 27, 28, 29, 21, 4, 182, 1, 198, 42, 4, 181, 1, 202, 42]
abbrev dktX14_fire_2 : List UInt8 := dkwX14_fire_2 ++ dktX14_fire_3
def dkwX14_fire_1 : List UInt8 := [184, 0, 219, 153, 0, 22, 42, 29, 182, 1, 192, 153, 0, 14, 21, 4, 3, 16, 20, 184, 0, 219]
abbrev dktX14_fire_1 : List UInt8 := dkwX14_fire_1 ++ dktX14_fire_2
def dkwX14_fire_0 : List UInt8 := [42, 3, 181, 0, 148, 42, 182, 0, 232, 27, 3, 16, 60, 184, 0, 219, 153, 0, 33, 28, 3, 17, 3, 231]
abbrev dktX14_fire_0 : List UInt8 := dkwX14_fire_0 ++ dktX14_fire_1
theorem dksX14_fire_0 : cX14_fire.data.toList.drop 0 = dktX14_fire_0 := by decide +kernel
theorem dksX14_fire_1 : cX14_fire.data.toList.drop 24 = dktX14_fire_1 := dk_seg dksX14_fire_0 24 rfl rfl
theorem dksX14_fire_2 : cX14_fire.data.toList.drop 46 = dktX14_fire_2 := dk_seg dksX14_fire_1 22 rfl rfl
theorem dksX14_fire_3 : cX14_fire.data.toList.drop 70 = dktX14_fire_3 := dk_seg dksX14_fire_2 24 rfl rfl
theorem dksX14_fire_4 : cX14_fire.data.toList.drop 93 = dktX14_fire_4 := dk_seg dksX14_fire_3 23 rfl rfl
theorem dksX14_fire_5 : cX14_fire.data.toList.drop 117 = dktX14_fire_5 := dk_seg dksX14_fire_4 24 rfl rfl
theorem dksX14_fire_6 : cX14_fire.data.toList.drop 141 = dktX14_fire_6 := dk_seg dksX14_fire_5 24 rfl rfl
theorem dksX14_fire_7 : cX14_fire.data.toList.drop 163 = dktX14_fire_7 := dk_seg dksX14_fire_6 22 rfl rfl
theorem dX14_fire_0 : decode cX14_fire 0 = .ok (.aload_n 0, 1) := dk_42 (dk_at dksX14_fire_0 0 rfl rfl)
theorem dX14_fire_1 : decode cX14_fire 1 = .ok (.iconst 0, 1) := dk_3 (dk_at dksX14_fire_0 1 rfl rfl)
theorem dX14_fire_2 : decode cX14_fire 2 = .ok (.putfield 148, 3) := dk_181 0 148 (dk_at dksX14_fire_0 2 rfl rfl)
theorem dX14_fire_5 : decode cX14_fire 5 = .ok (.aload_n 0, 1) := dk_42 (dk_at dksX14_fire_0 5 rfl rfl)
theorem dX14_fire_6 : decode cX14_fire 6 = .ok (.invokevirtual 232, 3) := dk_182 0 232 (dk_at dksX14_fire_0 6 rfl rfl)
theorem dX14_fire_9 : decode cX14_fire 9 = .ok (.iload_n 1, 1) := dk_27 (dk_at dksX14_fire_0 9 rfl rfl)
theorem dX14_fire_10 : decode cX14_fire 10 = .ok (.iconst 0, 1) := dk_3 (dk_at dksX14_fire_0 10 rfl rfl)
theorem dX14_fire_11 : decode cX14_fire 11 = .ok (.bipush 60, 2) := dk_16 60 (dk_at dksX14_fire_0 11 rfl rfl)
theorem dX14_fire_13 : decode cX14_fire 13 = .ok (.invokestatic 219, 3) := dk_184 0 219 (dk_at dksX14_fire_0 13 rfl rfl)
theorem dX14_fire_16 : decode cX14_fire 16 = .ok (.ifCond .eq 33, 3) := dk_153 0 33 (dk_at dksX14_fire_0 16 rfl rfl)
theorem dX14_fire_19 : decode cX14_fire 19 = .ok (.iload_n 2, 1) := dk_28 (dk_at dksX14_fire_0 19 rfl rfl)
theorem dX14_fire_20 : decode cX14_fire 20 = .ok (.iconst 0, 1) := dk_3 (dk_at dksX14_fire_0 20 rfl rfl)
theorem dX14_fire_21 : decode cX14_fire 21 = .ok (.sipush 999, 3) := dk_17 3 231 (dk_at dksX14_fire_0 21 rfl rfl)
theorem dX14_fire_24 : decode cX14_fire 24 = .ok (.invokestatic 219, 3) := dk_184 0 219 (dk_at dksX14_fire_1 0 rfl rfl)
theorem dX14_fire_27 : decode cX14_fire 27 = .ok (.ifCond .eq 22, 3) := dk_153 0 22 (dk_at dksX14_fire_1 3 rfl rfl)
theorem dX14_fire_30 : decode cX14_fire 30 = .ok (.aload_n 0, 1) := dk_42 (dk_at dksX14_fire_1 6 rfl rfl)
theorem dX14_fire_31 : decode cX14_fire 31 = .ok (.iload_n 3, 1) := dk_29 (dk_at dksX14_fire_1 7 rfl rfl)
theorem dX14_fire_32 : decode cX14_fire 32 = .ok (.invokevirtual 448, 3) := dk_182 1 192 (dk_at dksX14_fire_1 8 rfl rfl)
theorem dX14_fire_35 : decode cX14_fire 35 = .ok (.ifCond .eq 14, 3) := dk_153 0 14 (dk_at dksX14_fire_1 11 rfl rfl)
theorem dX14_fire_38 : decode cX14_fire 38 = .ok (.iload 4, 2) := dk_21 4 (dk_at dksX14_fire_1 14 rfl rfl)
theorem dX14_fire_40 : decode cX14_fire 40 = .ok (.iconst 0, 1) := dk_3 (dk_at dksX14_fire_1 16 rfl rfl)
theorem dX14_fire_41 : decode cX14_fire 41 = .ok (.bipush 20, 2) := dk_16 20 (dk_at dksX14_fire_1 17 rfl rfl)
theorem dX14_fire_43 : decode cX14_fire 43 = .ok (.invokestatic 219, 3) := dk_184 0 219 (dk_at dksX14_fire_1 19 rfl rfl)
theorem dX14_fire_46 : decode cX14_fire 46 = .ok (.ifCond .ne 5, 3) := dk_154 0 5 (dk_at dksX14_fire_2 0 rfl rfl)
theorem dX14_fire_49 : decode cX14_fire 49 = .ok (.iconst (-1), 1) := dk_2 (dk_at dksX14_fire_2 3 rfl rfl)
theorem dX14_fire_50 : decode cX14_fire 50 = .ok (.ireturn, 1) := dk_172 (dk_at dksX14_fire_2 4 rfl rfl)
theorem dX14_fire_51 : decode cX14_fire 51 = .ok (.aload_n 0, 1) := dk_42 (dk_at dksX14_fire_2 5 rfl rfl)
theorem dX14_fire_52 : decode cX14_fire 52 = .ok (.invokevirtual 451, 3) := dk_182 1 195 (dk_at dksX14_fire_2 6 rfl rfl)
theorem dX14_fire_55 : decode cX14_fire 55 = .ok (.aload_n 0, 1) := dk_42 (dk_at dksX14_fire_2 9 rfl rfl)
theorem dX14_fire_56 : decode cX14_fire 56 = .ok (.iload_n 1, 1) := dk_27 (dk_at dksX14_fire_2 10 rfl rfl)
theorem dX14_fire_57 : decode cX14_fire 57 = .ok (.iload_n 2, 1) := dk_28 (dk_at dksX14_fire_2 11 rfl rfl)
theorem dX14_fire_58 : decode cX14_fire 58 = .ok (.iload_n 3, 1) := dk_29 (dk_at dksX14_fire_2 12 rfl rfl)
theorem dX14_fire_59 : decode cX14_fire 59 = .ok (.iload 4, 2) := dk_21 4 (dk_at dksX14_fire_2 13 rfl rfl)
theorem dX14_fire_61 : decode cX14_fire 61 = .ok (.invokevirtual 454, 3) := dk_182 1 198 (dk_at dksX14_fire_2 15 rfl rfl)
theorem dX14_fire_64 : decode cX14_fire 64 = .ok (.aload_n 0, 1) := dk_42 (dk_at dksX14_fire_2 18 rfl rfl)
theorem dX14_fire_65 : decode cX14_fire 65 = .ok (.iconst 1, 1) := dk_4 (dk_at dksX14_fire_2 19 rfl rfl)
theorem dX14_fire_66 : decode cX14_fire 66 = .ok (.putfield 458, 3) := dk_181 1 202 (dk_at dksX14_fire_2 20 rfl rfl)
theorem dX14_fire_69 : decode cX14_fire 69 = .ok (.aload_n 0, 1) := dk_42 (dk_at dksX14_fire_2 23 rfl rfl)
theorem dX14_fire_70 : decode cX14_fire 70 = .ok (.aload_n 0, 1) := dk_42 (dk_at dksX14_fire_3 0 rfl rfl)
theorem dX14_fire_71 : decode cX14_fire 71 = .ok (.invokevirtual 298, 3) := dk_182 1 42 (dk_at dksX14_fire_3 1 rfl rfl)
theorem dX14_fire_74 : decode cX14_fire 74 = .ok (.putfield 461, 3) := dk_181 1 205 (dk_at dksX14_fire_3 4 rfl rfl)
theorem dX14_fire_77 : decode cX14_fire 77 = .ok (.aload_n 0, 1) := dk_42 (dk_at dksX14_fire_3 7 rfl rfl)
theorem dX14_fire_78 : decode cX14_fire 78 = .ok (.aload_n 0, 1) := dk_42 (dk_at dksX14_fire_3 8 rfl rfl)
theorem dX14_fire_79 : decode cX14_fire 79 = .ok (.getfield 13, 3) := dk_180 0 13 (dk_at dksX14_fire_3 9 rfl rfl)
theorem dX14_fire_82 : decode cX14_fire 82 = .ok (.bipush 10, 2) := dk_16 10 (dk_at dksX14_fire_3 12 rfl rfl)
theorem dX14_fire_84 : decode cX14_fire 84 = .ok (.iaload, 1) := dk_46 (dk_at dksX14_fire_3 14 rfl rfl)
theorem dX14_fire_85 : decode cX14_fire 85 = .ok (.putfield 464, 3) := dk_181 1 208 (dk_at dksX14_fire_3 15 rfl rfl)
theorem dX14_fire_88 : decode cX14_fire 88 = .ok (.aload_n 0, 1) := dk_42 (dk_at dksX14_fire_3 18 rfl rfl)
theorem dX14_fire_89 : decode cX14_fire 89 = .ok (.aload_n 0, 1) := dk_42 (dk_at dksX14_fire_3 19 rfl rfl)
theorem dX14_fire_90 : decode cX14_fire 90 = .ok (.getfield 439, 3) := dk_180 1 183 (dk_at dksX14_fire_3 20 rfl rfl)
theorem dX14_fire_93 : decode cX14_fire 93 = .ok (.putfield 126, 3) := dk_181 0 126 (dk_at dksX14_fire_4 0 rfl rfl)
theorem dX14_fire_96 : decode cX14_fire 96 = .ok (.iconst 0, 1) := dk_3 (dk_at dksX14_fire_4 3 rfl rfl)
theorem dX14_fire_97 : decode cX14_fire 97 = .ok (.istore 5, 2) := dk_54 5 (dk_at dksX14_fire_4 4 rfl rfl)
theorem dX14_fire_99 : decode cX14_fire 99 = .ok (.iload 5, 2) := dk_21 5 (dk_at dksX14_fire_4 6 rfl rfl)
theorem dX14_fire_101 : decode cX14_fire 101 = .ok (.aload_n 0, 1) := dk_42 (dk_at dksX14_fire_4 8 rfl rfl)
theorem dX14_fire_102 : decode cX14_fire 102 = .ok (.invokevirtual 426, 3) := dk_182 1 170 (dk_at dksX14_fire_4 9 rfl rfl)
theorem dX14_fire_105 : decode cX14_fire 105 = .ok (.if_icmp .ge 61, 3) := dk_162 0 61 (dk_at dksX14_fire_4 12 rfl rfl)
theorem dX14_fire_108 : decode cX14_fire 108 = .ok (.aload_n 0, 1) := dk_42 (dk_at dksX14_fire_4 15 rfl rfl)
theorem dX14_fire_109 : decode cX14_fire 109 = .ok (.getfield 123, 3) := dk_180 0 123 (dk_at dksX14_fire_4 16 rfl rfl)
theorem dX14_fire_112 : decode cX14_fire 112 = .ok (.iconst 3, 1) := dk_6 (dk_at dksX14_fire_4 19 rfl rfl)
theorem dX14_fire_113 : decode cX14_fire 113 = .ok (.iload 5, 2) := dk_21 5 (dk_at dksX14_fire_4 20 rfl rfl)
theorem dX14_fire_115 : decode cX14_fire 115 = .ok (.imul, 1) := dk_104 (dk_at dksX14_fire_4 22 rfl rfl)
theorem dX14_fire_116 : decode cX14_fire 116 = .ok (.aload_n 0, 1) := dk_42 (dk_at dksX14_fire_4 23 rfl rfl)
theorem dX14_fire_117 : decode cX14_fire 117 = .ok (.getfield 105, 3) := dk_180 0 105 (dk_at dksX14_fire_5 0 rfl rfl)
theorem dX14_fire_120 : decode cX14_fire 120 = .ok (.iload 5, 2) := dk_21 5 (dk_at dksX14_fire_5 3 rfl rfl)
theorem dX14_fire_122 : decode cX14_fire 122 = .ok (.iaload, 1) := dk_46 (dk_at dksX14_fire_5 5 rfl rfl)
theorem dX14_fire_123 : decode cX14_fire 123 = .ok (.iastore, 1) := dk_79 (dk_at dksX14_fire_5 6 rfl rfl)
theorem dX14_fire_124 : decode cX14_fire 124 = .ok (.aload_n 0, 1) := dk_42 (dk_at dksX14_fire_5 7 rfl rfl)
theorem dX14_fire_125 : decode cX14_fire 125 = .ok (.getfield 123, 3) := dk_180 0 123 (dk_at dksX14_fire_5 8 rfl rfl)
theorem dX14_fire_128 : decode cX14_fire 128 = .ok (.iconst 3, 1) := dk_6 (dk_at dksX14_fire_5 11 rfl rfl)
theorem dX14_fire_129 : decode cX14_fire 129 = .ok (.iload 5, 2) := dk_21 5 (dk_at dksX14_fire_5 12 rfl rfl)
theorem dX14_fire_131 : decode cX14_fire 131 = .ok (.imul, 1) := dk_104 (dk_at dksX14_fire_5 14 rfl rfl)
theorem dX14_fire_132 : decode cX14_fire 132 = .ok (.iconst 1, 1) := dk_4 (dk_at dksX14_fire_5 15 rfl rfl)
theorem dX14_fire_133 : decode cX14_fire 133 = .ok (.iadd, 1) := dk_96 (dk_at dksX14_fire_5 16 rfl rfl)
theorem dX14_fire_134 : decode cX14_fire 134 = .ok (.aload_n 0, 1) := dk_42 (dk_at dksX14_fire_5 17 rfl rfl)
theorem dX14_fire_135 : decode cX14_fire 135 = .ok (.getfield 108, 3) := dk_180 0 108 (dk_at dksX14_fire_5 18 rfl rfl)
theorem dX14_fire_138 : decode cX14_fire 138 = .ok (.iload 5, 2) := dk_21 5 (dk_at dksX14_fire_5 21 rfl rfl)
theorem dX14_fire_140 : decode cX14_fire 140 = .ok (.iaload, 1) := dk_46 (dk_at dksX14_fire_5 23 rfl rfl)
theorem dX14_fire_141 : decode cX14_fire 141 = .ok (.iastore, 1) := dk_79 (dk_at dksX14_fire_6 0 rfl rfl)
theorem dX14_fire_142 : decode cX14_fire 142 = .ok (.aload_n 0, 1) := dk_42 (dk_at dksX14_fire_6 1 rfl rfl)
theorem dX14_fire_143 : decode cX14_fire 143 = .ok (.getfield 123, 3) := dk_180 0 123 (dk_at dksX14_fire_6 2 rfl rfl)
theorem dX14_fire_146 : decode cX14_fire 146 = .ok (.iconst 3, 1) := dk_6 (dk_at dksX14_fire_6 5 rfl rfl)
theorem dX14_fire_147 : decode cX14_fire 147 = .ok (.iload 5, 2) := dk_21 5 (dk_at dksX14_fire_6 6 rfl rfl)
theorem dX14_fire_149 : decode cX14_fire 149 = .ok (.imul, 1) := dk_104 (dk_at dksX14_fire_6 8 rfl rfl)
theorem dX14_fire_150 : decode cX14_fire 150 = .ok (.iconst 2, 1) := dk_5 (dk_at dksX14_fire_6 9 rfl rfl)
theorem dX14_fire_151 : decode cX14_fire 151 = .ok (.iadd, 1) := dk_96 (dk_at dksX14_fire_6 10 rfl rfl)
theorem dX14_fire_152 : decode cX14_fire 152 = .ok (.aload_n 0, 1) := dk_42 (dk_at dksX14_fire_6 11 rfl rfl)
theorem dX14_fire_153 : decode cX14_fire 153 = .ok (.getfield 111, 3) := dk_180 0 111 (dk_at dksX14_fire_6 12 rfl rfl)
theorem dX14_fire_156 : decode cX14_fire 156 = .ok (.iload 5, 2) := dk_21 5 (dk_at dksX14_fire_6 15 rfl rfl)
theorem dX14_fire_158 : decode cX14_fire 158 = .ok (.iaload, 1) := dk_46 (dk_at dksX14_fire_6 17 rfl rfl)
theorem dX14_fire_159 : decode cX14_fire 159 = .ok (.iastore, 1) := dk_79 (dk_at dksX14_fire_6 18 rfl rfl)
theorem dX14_fire_160 : decode cX14_fire 160 = .ok (.iinc 5 1, 3) := dk_132 5 1 (dk_at dksX14_fire_6 19 rfl rfl)
theorem dX14_fire_163 : decode cX14_fire 163 = .ok (.goto (-64), 3) := dk_167 255 192 (dk_at dksX14_fire_7 0 rfl rfl)
theorem dX14_fire_166 : decode cX14_fire 166 = .ok (.aload_n 0, 1) := dk_42 (dk_at dksX14_fire_7 3 rfl rfl)
theorem dX14_fire_167 : decode cX14_fire 167 = .ok (.getfield 423, 3) := dk_180 1 167 (dk_at dksX14_fire_7 4 rfl rfl)
theorem dX14_fire_170 : decode cX14_fire 170 = .ok (.ireturn, 1) := dk_172 (dk_at dksX14_fire_7 7 rfl rfl)
abbrev cX14_isAim : ByteArray := prog_23_method_80_code
def yX14_isAim : MethodName := ⟨RX14, "isAim", "(I)Z"⟩
def dkwX14_isAim_2 : List UInt8 := [162, 0, 7, 4, 167, 0, 4, 3, 172]
abbrev dktX14_isAim_2 : List UInt8 := dkwX14_isAim_2 ++ []
def dkwX14_isAim_1 : List UInt8 := [16, 10, 112, 42, 182, 1, 42, 162, 0, 24, 27, 16, 100, 100, 16, 10, 108, 42, 180, 0, 13, 16, 10, 46]
abbrev dktX14_isAim_1 : List UInt8 := dkwX14_isAim_1 ++ dktX14_isAim_2
def dkwX14_isAim_0 : List UInt8 := [27, 16, 100, 162, 0, 10, 27, 3, 6, 184, 0, 219, 172, 27, 17, 0, 177, 163, 0, 38, 27, 16, 100, 100]
abbrev dktX14_isAim_0 : List UInt8 := dkwX14_isAim_0 ++ dktX14_isAim_1
theorem dksX14_isAim_0 : cX14_isAim.data.toList.drop 0 = dktX14_isAim_0 := by decide +kernel
theorem dksX14_isAim_1 : cX14_isAim.data.toList.drop 24 = dktX14_isAim_1 := dk_seg dksX14_isAim_0 24 rfl rfl
theorem dksX14_isAim_2 : cX14_isAim.data.toList.drop 48 = dktX14_isAim_2 := dk_seg dksX14_isAim_1 24 rfl rfl
theorem dX14_isAim_0 : decode cX14_isAim 0 = .ok (.iload_n 1, 1) := dk_27 (dk_at dksX14_isAim_0 0 rfl rfl)
theorem dX14_isAim_1 : decode cX14_isAim 1 = .ok (.bipush 100, 2) := dk_16 100 (dk_at dksX14_isAim_0 1 rfl rfl)
theorem dX14_isAim_3 : decode cX14_isAim 3 = .ok (.if_icmp .ge 10, 3) := dk_162 0 10 (dk_at dksX14_isAim_0 3 rfl rfl)
theorem dX14_isAim_6 : decode cX14_isAim 6 = .ok (.iload_n 1, 1) := dk_27 (dk_at dksX14_isAim_0 6 rfl rfl)
theorem dX14_isAim_7 : decode cX14_isAim 7 = .ok (.iconst 0, 1) := dk_3 (dk_at dksX14_isAim_0 7 rfl rfl)
theorem dX14_isAim_8 : decode cX14_isAim 8 = .ok (.iconst 3, 1) := dk_6 (dk_at dksX14_isAim_0 8 rfl rfl)
theorem dX14_isAim_9 : decode cX14_isAim 9 = .ok (.invokestatic 219, 3) := dk_184 0 219 (dk_at dksX14_isAim_0 9 rfl rfl)
theorem dX14_isAim_12 : decode cX14_isAim 12 = .ok (.ireturn, 1) := dk_172 (dk_at dksX14_isAim_0 12 rfl rfl)
theorem dX14_isAim_13 : decode cX14_isAim 13 = .ok (.iload_n 1, 1) := dk_27 (dk_at dksX14_isAim_0 13 rfl rfl)
theorem dX14_isAim_14 : decode cX14_isAim 14 = .ok (.sipush 177, 3) := dk_17 0 177 (dk_at dksX14_isAim_0 14 rfl rfl)
theorem dX14_isAim_17 : decode cX14_isAim 17 = .ok (.if_icmp .gt 38, 3) := dk_163 0 38 (dk_at dksX14_isAim_0 17 rfl rfl)
theorem dX14_isAim_20 : decode cX14_isAim 20 = .ok (.iload_n 1, 1) := dk_27 (dk_at dksX14_isAim_0 20 rfl rfl)
theorem dX14_isAim_21 : decode cX14_isAim 21 = .ok (.bipush 100, 2) := dk_16 100 (dk_at dksX14_isAim_0 21 rfl rfl)
theorem dX14_isAim_23 : decode cX14_isAim 23 = .ok (.isub, 1) := dk_100 (dk_at dksX14_isAim_0 23 rfl rfl)
theorem dX14_isAim_24 : decode cX14_isAim 24 = .ok (.bipush 10, 2) := dk_16 10 (dk_at dksX14_isAim_1 0 rfl rfl)
theorem dX14_isAim_26 : decode cX14_isAim 26 = .ok (.irem, 1) := dk_112 (dk_at dksX14_isAim_1 2 rfl rfl)
theorem dX14_isAim_27 : decode cX14_isAim 27 = .ok (.aload_n 0, 1) := dk_42 (dk_at dksX14_isAim_1 3 rfl rfl)
theorem dX14_isAim_28 : decode cX14_isAim 28 = .ok (.invokevirtual 298, 3) := dk_182 1 42 (dk_at dksX14_isAim_1 4 rfl rfl)
theorem dX14_isAim_31 : decode cX14_isAim 31 = .ok (.if_icmp .ge 24, 3) := dk_162 0 24 (dk_at dksX14_isAim_1 7 rfl rfl)
theorem dX14_isAim_34 : decode cX14_isAim 34 = .ok (.iload_n 1, 1) := dk_27 (dk_at dksX14_isAim_1 10 rfl rfl)
theorem dX14_isAim_35 : decode cX14_isAim 35 = .ok (.bipush 100, 2) := dk_16 100 (dk_at dksX14_isAim_1 11 rfl rfl)
theorem dX14_isAim_37 : decode cX14_isAim 37 = .ok (.isub, 1) := dk_100 (dk_at dksX14_isAim_1 13 rfl rfl)
theorem dX14_isAim_38 : decode cX14_isAim 38 = .ok (.bipush 10, 2) := dk_16 10 (dk_at dksX14_isAim_1 14 rfl rfl)
theorem dX14_isAim_40 : decode cX14_isAim 40 = .ok (.idiv, 1) := dk_108 (dk_at dksX14_isAim_1 16 rfl rfl)
theorem dX14_isAim_41 : decode cX14_isAim 41 = .ok (.aload_n 0, 1) := dk_42 (dk_at dksX14_isAim_1 17 rfl rfl)
theorem dX14_isAim_42 : decode cX14_isAim 42 = .ok (.getfield 13, 3) := dk_180 0 13 (dk_at dksX14_isAim_1 18 rfl rfl)
theorem dX14_isAim_45 : decode cX14_isAim 45 = .ok (.bipush 10, 2) := dk_16 10 (dk_at dksX14_isAim_1 21 rfl rfl)
theorem dX14_isAim_47 : decode cX14_isAim 47 = .ok (.iaload, 1) := dk_46 (dk_at dksX14_isAim_1 23 rfl rfl)
theorem dX14_isAim_48 : decode cX14_isAim 48 = .ok (.if_icmp .ge 7, 3) := dk_162 0 7 (dk_at dksX14_isAim_2 0 rfl rfl)
theorem dX14_isAim_51 : decode cX14_isAim 51 = .ok (.iconst 1, 1) := dk_4 (dk_at dksX14_isAim_2 3 rfl rfl)
theorem dX14_isAim_52 : decode cX14_isAim 52 = .ok (.goto 4, 3) := dk_167 0 4 (dk_at dksX14_isAim_2 4 rfl rfl)
theorem dX14_isAim_55 : decode cX14_isAim 55 = .ok (.iconst 0, 1) := dk_3 (dk_at dksX14_isAim_2 7 rfl rfl)
theorem dX14_isAim_56 : decode cX14_isAim 56 = .ok (.ireturn, 1) := dk_172 (dk_at dksX14_isAim_2 8 rfl rfl)
abbrev cX14_light : ByteArray := prog_23_method_75_code
def yX14_light : MethodName := ⟨RX14, "light", "()V"⟩
def dkwX14_light_2 : List UInt8 := [180, 0, 111, 27, 3, 79, 132, 1, 1, 167, 255, 207, 177]
abbrev dktX14_light_2 : List UInt8 := dkwX14_light_2 ++ []
def dkwX14_light_1 : List UInt8 := [16, 60, 27, 96, 46, 79, 42, 180, 0, 108, 27, 42, 180, 0, 13, 17, 0, 130, 27, 96, 46, 79, 42]
abbrev dktX14_light_1 : List UInt8 := dkwX14_light_1 ++ dktX14_light_2
def dkwX14_light_0 : List UInt8 := [42, 3, 181, 1, 167, 3, 60, 27, 42, 182, 1, 170, 162, 0, 47, 42, 180, 0, 105, 27, 42, 180, 0, 13]
abbrev dktX14_light_0 : List UInt8 := dkwX14_light_0 ++ dktX14_light_1
theorem dksX14_light_0 : cX14_light.data.toList.drop 0 = dktX14_light_0 := by decide +kernel
theorem dksX14_light_1 : cX14_light.data.toList.drop 24 = dktX14_light_1 := dk_seg dksX14_light_0 24 rfl rfl
theorem dksX14_light_2 : cX14_light.data.toList.drop 47 = dktX14_light_2 := dk_seg dksX14_light_1 23 rfl rfl
theorem dX14_light_0 : decode cX14_light 0 = .ok (.aload_n 0, 1) := dk_42 (dk_at dksX14_light_0 0 rfl rfl)
theorem dX14_light_1 : decode cX14_light 1 = .ok (.iconst 0, 1) := dk_3 (dk_at dksX14_light_0 1 rfl rfl)
theorem dX14_light_2 : decode cX14_light 2 = .ok (.putfield 423, 3) := dk_181 1 167 (dk_at dksX14_light_0 2 rfl rfl)
theorem dX14_light_5 : decode cX14_light 5 = .ok (.iconst 0, 1) := dk_3 (dk_at dksX14_light_0 5 rfl rfl)
theorem dX14_light_6 : decode cX14_light 6 = .ok (.istore_n 1, 1) := dk_60 (dk_at dksX14_light_0 6 rfl rfl)
theorem dX14_light_7 : decode cX14_light 7 = .ok (.iload_n 1, 1) := dk_27 (dk_at dksX14_light_0 7 rfl rfl)
theorem dX14_light_8 : decode cX14_light 8 = .ok (.aload_n 0, 1) := dk_42 (dk_at dksX14_light_0 8 rfl rfl)
theorem dX14_light_9 : decode cX14_light 9 = .ok (.invokevirtual 426, 3) := dk_182 1 170 (dk_at dksX14_light_0 9 rfl rfl)
theorem dX14_light_12 : decode cX14_light 12 = .ok (.if_icmp .ge 47, 3) := dk_162 0 47 (dk_at dksX14_light_0 12 rfl rfl)
theorem dX14_light_15 : decode cX14_light 15 = .ok (.aload_n 0, 1) := dk_42 (dk_at dksX14_light_0 15 rfl rfl)
theorem dX14_light_16 : decode cX14_light 16 = .ok (.getfield 105, 3) := dk_180 0 105 (dk_at dksX14_light_0 16 rfl rfl)
theorem dX14_light_19 : decode cX14_light 19 = .ok (.iload_n 1, 1) := dk_27 (dk_at dksX14_light_0 19 rfl rfl)
theorem dX14_light_20 : decode cX14_light 20 = .ok (.aload_n 0, 1) := dk_42 (dk_at dksX14_light_0 20 rfl rfl)
theorem dX14_light_21 : decode cX14_light 21 = .ok (.getfield 13, 3) := dk_180 0 13 (dk_at dksX14_light_0 21 rfl rfl)
theorem dX14_light_24 : decode cX14_light 24 = .ok (.bipush 60, 2) := dk_16 60 (dk_at dksX14_light_1 0 rfl rfl)
theorem dX14_light_26 : decode cX14_light 26 = .ok (.iload_n 1, 1) := dk_27 (dk_at dksX14_light_1 2 rfl rfl)
theorem dX14_light_27 : decode cX14_light 27 = .ok (.iadd, 1) := dk_96 (dk_at dksX14_light_1 3 rfl rfl)
theorem dX14_light_28 : decode cX14_light 28 = .ok (.iaload, 1) := dk_46 (dk_at dksX14_light_1 4 rfl rfl)
theorem dX14_light_29 : decode cX14_light 29 = .ok (.iastore, 1) := dk_79 (dk_at dksX14_light_1 5 rfl rfl)
theorem dX14_light_30 : decode cX14_light 30 = .ok (.aload_n 0, 1) := dk_42 (dk_at dksX14_light_1 6 rfl rfl)
theorem dX14_light_31 : decode cX14_light 31 = .ok (.getfield 108, 3) := dk_180 0 108 (dk_at dksX14_light_1 7 rfl rfl)
theorem dX14_light_34 : decode cX14_light 34 = .ok (.iload_n 1, 1) := dk_27 (dk_at dksX14_light_1 10 rfl rfl)
theorem dX14_light_35 : decode cX14_light 35 = .ok (.aload_n 0, 1) := dk_42 (dk_at dksX14_light_1 11 rfl rfl)
theorem dX14_light_36 : decode cX14_light 36 = .ok (.getfield 13, 3) := dk_180 0 13 (dk_at dksX14_light_1 12 rfl rfl)
theorem dX14_light_39 : decode cX14_light 39 = .ok (.sipush 130, 3) := dk_17 0 130 (dk_at dksX14_light_1 15 rfl rfl)
theorem dX14_light_42 : decode cX14_light 42 = .ok (.iload_n 1, 1) := dk_27 (dk_at dksX14_light_1 18 rfl rfl)
theorem dX14_light_43 : decode cX14_light 43 = .ok (.iadd, 1) := dk_96 (dk_at dksX14_light_1 19 rfl rfl)
theorem dX14_light_44 : decode cX14_light 44 = .ok (.iaload, 1) := dk_46 (dk_at dksX14_light_1 20 rfl rfl)
theorem dX14_light_45 : decode cX14_light 45 = .ok (.iastore, 1) := dk_79 (dk_at dksX14_light_1 21 rfl rfl)
theorem dX14_light_46 : decode cX14_light 46 = .ok (.aload_n 0, 1) := dk_42 (dk_at dksX14_light_1 22 rfl rfl)
theorem dX14_light_47 : decode cX14_light 47 = .ok (.getfield 111, 3) := dk_180 0 111 (dk_at dksX14_light_2 0 rfl rfl)
theorem dX14_light_50 : decode cX14_light 50 = .ok (.iload_n 1, 1) := dk_27 (dk_at dksX14_light_2 3 rfl rfl)
theorem dX14_light_51 : decode cX14_light 51 = .ok (.iconst 0, 1) := dk_3 (dk_at dksX14_light_2 4 rfl rfl)
theorem dX14_light_52 : decode cX14_light 52 = .ok (.iastore, 1) := dk_79 (dk_at dksX14_light_2 5 rfl rfl)
theorem dX14_light_53 : decode cX14_light 53 = .ok (.iinc 1 1, 3) := dk_132 1 1 (dk_at dksX14_light_2 6 rfl rfl)
theorem dX14_light_56 : decode cX14_light 56 = .ok (.goto (-49), 3) := dk_167 255 207 (dk_at dksX14_light_2 9 rfl rfl)
theorem dX14_light_59 : decode cX14_light 59 = .ok (.return_, 1) := dk_177 (dk_at dksX14_light_2 12 rfl rfl)
abbrev cX14_cells : ByteArray := prog_23_method_30_code
def yX14_cells : MethodName := ⟨RX14, "cells", "()I"⟩
def dkwX14_cells_0 : List UInt8 := [42, 180, 0, 13, 16, 9, 46, 42, 180, 0, 13, 16, 10, 46, 104, 172]
abbrev dktX14_cells_0 : List UInt8 := dkwX14_cells_0 ++ []
theorem dksX14_cells_0 : cX14_cells.data.toList.drop 0 = dktX14_cells_0 := by decide +kernel
theorem dX14_cells_0 : decode cX14_cells 0 = .ok (.aload_n 0, 1) := dk_42 (dk_at dksX14_cells_0 0 rfl rfl)
theorem dX14_cells_1 : decode cX14_cells 1 = .ok (.getfield 13, 3) := dk_180 0 13 (dk_at dksX14_cells_0 1 rfl rfl)
theorem dX14_cells_4 : decode cX14_cells 4 = .ok (.bipush 9, 2) := dk_16 9 (dk_at dksX14_cells_0 4 rfl rfl)
theorem dX14_cells_6 : decode cX14_cells 6 = .ok (.iaload, 1) := dk_46 (dk_at dksX14_cells_0 6 rfl rfl)
theorem dX14_cells_7 : decode cX14_cells 7 = .ok (.aload_n 0, 1) := dk_42 (dk_at dksX14_cells_0 7 rfl rfl)
theorem dX14_cells_8 : decode cX14_cells 8 = .ok (.getfield 13, 3) := dk_180 0 13 (dk_at dksX14_cells_0 8 rfl rfl)
theorem dX14_cells_11 : decode cX14_cells 11 = .ok (.bipush 10, 2) := dk_16 10 (dk_at dksX14_cells_0 11 rfl rfl)
theorem dX14_cells_13 : decode cX14_cells 13 = .ok (.iaload, 1) := dk_46 (dk_at dksX14_cells_0 13 rfl rfl)
theorem dX14_cells_14 : decode cX14_cells 14 = .ok (.imul, 1) := dk_104 (dk_at dksX14_cells_0 14 rfl rfl)
theorem dX14_cells_15 : decode cX14_cells 15 = .ok (.ireturn, 1) := dk_172 (dk_at dksX14_cells_0 15 rfl rfl)
abbrev cX14_fires : ByteArray := prog_23_method_82_code
def yX14_fires : MethodName := ⟨RX14, "fires", "(IIII)V"⟩
def dkwX14_fires_6 : List UInt8 := [21, 5, 4, 96, 181, 1, 183, 132, 5, 1, 167, 255, 125, 177]
abbrev dktX14_fires_6 : List UInt8 := dkwX14_fires_6 ++ []
def dkwX14_fires_5 : List UInt8 := [182, 1, 186, 28, 182, 1, 189, 42, 180, 1, 183, 2, 160, 0, 18, 42, 182, 1, 180, 154, 0, 11, 42]
abbrev dktX14_fires_5 : List UInt8 := dkwX14_fires_5 ++ dktX14_fires_6
def dkwX14_fires_4 : List UInt8 := [21, 5, 21, 4, 100, 54, 6, 42, 42, 29, 42, 180, 0, 117, 42, 180, 0, 120, 16, 64, 21, 6, 104]
abbrev dktX14_fires_4 : List UInt8 := dkwX14_fires_4 ++ dktX14_fires_5
def dkwX14_fires_3 : List UInt8 := [180, 0, 108, 21, 6, 46, 79, 132, 6, 1, 167, 255, 204, 21, 5, 21, 4, 162, 0, 7, 3, 167, 0, 8]
abbrev dktX14_fires_3 : List UInt8 := dkwX14_fires_3 ++ dktX14_fires_4
def dkwX14_fires_2 : List UInt8 := [21, 6, 96, 42, 180, 0, 105, 21, 6, 46, 79, 42, 180, 0, 120, 16, 64, 21, 5, 104, 21, 6, 96, 42]
abbrev dktX14_fires_2 : List UInt8 := dkwX14_fires_2 ++ dktX14_fires_3
def dkwX14_fires_1 : List UInt8 := [162, 0, 131, 3, 54, 6, 21, 6, 42, 182, 1, 170, 162, 0, 49, 42, 180, 0, 117, 16, 64, 21, 5, 104]
abbrev dktX14_fires_1 : List UInt8 := dkwX14_fires_1 ++ dktX14_fires_2
def dkwX14_fires_0 : List UInt8 := [42, 42, 182, 1, 180, 154, 0, 7, 3, 167, 0, 4, 2, 181, 1, 183, 3, 54, 5, 21, 5, 27]
abbrev dktX14_fires_0 : List UInt8 := dkwX14_fires_0 ++ dktX14_fires_1
theorem dksX14_fires_0 : cX14_fires.data.toList.drop 0 = dktX14_fires_0 := by decide +kernel
theorem dksX14_fires_1 : cX14_fires.data.toList.drop 22 = dktX14_fires_1 := dk_seg dksX14_fires_0 22 rfl rfl
theorem dksX14_fires_2 : cX14_fires.data.toList.drop 46 = dktX14_fires_2 := dk_seg dksX14_fires_1 24 rfl rfl
theorem dksX14_fires_3 : cX14_fires.data.toList.drop 70 = dktX14_fires_3 := dk_seg dksX14_fires_2 24 rfl rfl
theorem dksX14_fires_4 : cX14_fires.data.toList.drop 94 = dktX14_fires_4 := dk_seg dksX14_fires_3 24 rfl rfl
theorem dksX14_fires_5 : cX14_fires.data.toList.drop 117 = dktX14_fires_5 := dk_seg dksX14_fires_4 23 rfl rfl
theorem dksX14_fires_6 : cX14_fires.data.toList.drop 140 = dktX14_fires_6 := dk_seg dksX14_fires_5 23 rfl rfl
theorem dX14_fires_0 : decode cX14_fires 0 = .ok (.aload_n 0, 1) := dk_42 (dk_at dksX14_fires_0 0 rfl rfl)
theorem dX14_fires_1 : decode cX14_fires 1 = .ok (.aload_n 0, 1) := dk_42 (dk_at dksX14_fires_0 1 rfl rfl)
theorem dX14_fires_2 : decode cX14_fires 2 = .ok (.invokevirtual 436, 3) := dk_182 1 180 (dk_at dksX14_fires_0 2 rfl rfl)
theorem dX14_fires_5 : decode cX14_fires 5 = .ok (.ifCond .ne 7, 3) := dk_154 0 7 (dk_at dksX14_fires_0 5 rfl rfl)
theorem dX14_fires_8 : decode cX14_fires 8 = .ok (.iconst 0, 1) := dk_3 (dk_at dksX14_fires_0 8 rfl rfl)
theorem dX14_fires_9 : decode cX14_fires 9 = .ok (.goto 4, 3) := dk_167 0 4 (dk_at dksX14_fires_0 9 rfl rfl)
theorem dX14_fires_12 : decode cX14_fires 12 = .ok (.iconst (-1), 1) := dk_2 (dk_at dksX14_fires_0 12 rfl rfl)
theorem dX14_fires_13 : decode cX14_fires 13 = .ok (.putfield 439, 3) := dk_181 1 183 (dk_at dksX14_fires_0 13 rfl rfl)
theorem dX14_fires_16 : decode cX14_fires 16 = .ok (.iconst 0, 1) := dk_3 (dk_at dksX14_fires_0 16 rfl rfl)
theorem dX14_fires_17 : decode cX14_fires 17 = .ok (.istore 5, 2) := dk_54 5 (dk_at dksX14_fires_0 17 rfl rfl)
theorem dX14_fires_19 : decode cX14_fires 19 = .ok (.iload 5, 2) := dk_21 5 (dk_at dksX14_fires_0 19 rfl rfl)
theorem dX14_fires_21 : decode cX14_fires 21 = .ok (.iload_n 1, 1) := dk_27 (dk_at dksX14_fires_0 21 rfl rfl)
theorem dX14_fires_22 : decode cX14_fires 22 = .ok (.if_icmp .ge 131, 3) := dk_162 0 131 (dk_at dksX14_fires_1 0 rfl rfl)
theorem dX14_fires_25 : decode cX14_fires 25 = .ok (.iconst 0, 1) := dk_3 (dk_at dksX14_fires_1 3 rfl rfl)
theorem dX14_fires_26 : decode cX14_fires 26 = .ok (.istore 6, 2) := dk_54 6 (dk_at dksX14_fires_1 4 rfl rfl)
theorem dX14_fires_28 : decode cX14_fires 28 = .ok (.iload 6, 2) := dk_21 6 (dk_at dksX14_fires_1 6 rfl rfl)
theorem dX14_fires_30 : decode cX14_fires 30 = .ok (.aload_n 0, 1) := dk_42 (dk_at dksX14_fires_1 8 rfl rfl)
theorem dX14_fires_31 : decode cX14_fires 31 = .ok (.invokevirtual 426, 3) := dk_182 1 170 (dk_at dksX14_fires_1 9 rfl rfl)
theorem dX14_fires_34 : decode cX14_fires 34 = .ok (.if_icmp .ge 49, 3) := dk_162 0 49 (dk_at dksX14_fires_1 12 rfl rfl)
theorem dX14_fires_37 : decode cX14_fires 37 = .ok (.aload_n 0, 1) := dk_42 (dk_at dksX14_fires_1 15 rfl rfl)
theorem dX14_fires_38 : decode cX14_fires 38 = .ok (.getfield 117, 3) := dk_180 0 117 (dk_at dksX14_fires_1 16 rfl rfl)
theorem dX14_fires_41 : decode cX14_fires 41 = .ok (.bipush 64, 2) := dk_16 64 (dk_at dksX14_fires_1 19 rfl rfl)
theorem dX14_fires_43 : decode cX14_fires 43 = .ok (.iload 5, 2) := dk_21 5 (dk_at dksX14_fires_1 21 rfl rfl)
theorem dX14_fires_45 : decode cX14_fires 45 = .ok (.imul, 1) := dk_104 (dk_at dksX14_fires_1 23 rfl rfl)
theorem dX14_fires_46 : decode cX14_fires 46 = .ok (.iload 6, 2) := dk_21 6 (dk_at dksX14_fires_2 0 rfl rfl)
theorem dX14_fires_48 : decode cX14_fires 48 = .ok (.iadd, 1) := dk_96 (dk_at dksX14_fires_2 2 rfl rfl)
theorem dX14_fires_49 : decode cX14_fires 49 = .ok (.aload_n 0, 1) := dk_42 (dk_at dksX14_fires_2 3 rfl rfl)
theorem dX14_fires_50 : decode cX14_fires 50 = .ok (.getfield 105, 3) := dk_180 0 105 (dk_at dksX14_fires_2 4 rfl rfl)
theorem dX14_fires_53 : decode cX14_fires 53 = .ok (.iload 6, 2) := dk_21 6 (dk_at dksX14_fires_2 7 rfl rfl)
theorem dX14_fires_55 : decode cX14_fires 55 = .ok (.iaload, 1) := dk_46 (dk_at dksX14_fires_2 9 rfl rfl)
theorem dX14_fires_56 : decode cX14_fires 56 = .ok (.iastore, 1) := dk_79 (dk_at dksX14_fires_2 10 rfl rfl)
theorem dX14_fires_57 : decode cX14_fires 57 = .ok (.aload_n 0, 1) := dk_42 (dk_at dksX14_fires_2 11 rfl rfl)
theorem dX14_fires_58 : decode cX14_fires 58 = .ok (.getfield 120, 3) := dk_180 0 120 (dk_at dksX14_fires_2 12 rfl rfl)
theorem dX14_fires_61 : decode cX14_fires 61 = .ok (.bipush 64, 2) := dk_16 64 (dk_at dksX14_fires_2 15 rfl rfl)
theorem dX14_fires_63 : decode cX14_fires 63 = .ok (.iload 5, 2) := dk_21 5 (dk_at dksX14_fires_2 17 rfl rfl)
theorem dX14_fires_65 : decode cX14_fires 65 = .ok (.imul, 1) := dk_104 (dk_at dksX14_fires_2 19 rfl rfl)
theorem dX14_fires_66 : decode cX14_fires 66 = .ok (.iload 6, 2) := dk_21 6 (dk_at dksX14_fires_2 20 rfl rfl)
theorem dX14_fires_68 : decode cX14_fires 68 = .ok (.iadd, 1) := dk_96 (dk_at dksX14_fires_2 22 rfl rfl)
theorem dX14_fires_69 : decode cX14_fires 69 = .ok (.aload_n 0, 1) := dk_42 (dk_at dksX14_fires_2 23 rfl rfl)
theorem dX14_fires_70 : decode cX14_fires 70 = .ok (.getfield 108, 3) := dk_180 0 108 (dk_at dksX14_fires_3 0 rfl rfl)
theorem dX14_fires_73 : decode cX14_fires 73 = .ok (.iload 6, 2) := dk_21 6 (dk_at dksX14_fires_3 3 rfl rfl)
theorem dX14_fires_75 : decode cX14_fires 75 = .ok (.iaload, 1) := dk_46 (dk_at dksX14_fires_3 5 rfl rfl)
theorem dX14_fires_76 : decode cX14_fires 76 = .ok (.iastore, 1) := dk_79 (dk_at dksX14_fires_3 6 rfl rfl)
theorem dX14_fires_77 : decode cX14_fires 77 = .ok (.iinc 6 1, 3) := dk_132 6 1 (dk_at dksX14_fires_3 7 rfl rfl)
theorem dX14_fires_80 : decode cX14_fires 80 = .ok (.goto (-52), 3) := dk_167 255 204 (dk_at dksX14_fires_3 10 rfl rfl)
theorem dX14_fires_83 : decode cX14_fires 83 = .ok (.iload 5, 2) := dk_21 5 (dk_at dksX14_fires_3 13 rfl rfl)
theorem dX14_fires_85 : decode cX14_fires 85 = .ok (.iload 4, 2) := dk_21 4 (dk_at dksX14_fires_3 15 rfl rfl)
theorem dX14_fires_87 : decode cX14_fires 87 = .ok (.if_icmp .ge 7, 3) := dk_162 0 7 (dk_at dksX14_fires_3 17 rfl rfl)
theorem dX14_fires_90 : decode cX14_fires 90 = .ok (.iconst 0, 1) := dk_3 (dk_at dksX14_fires_3 20 rfl rfl)
theorem dX14_fires_91 : decode cX14_fires 91 = .ok (.goto 8, 3) := dk_167 0 8 (dk_at dksX14_fires_3 21 rfl rfl)
theorem dX14_fires_94 : decode cX14_fires 94 = .ok (.iload 5, 2) := dk_21 5 (dk_at dksX14_fires_4 0 rfl rfl)
theorem dX14_fires_96 : decode cX14_fires 96 = .ok (.iload 4, 2) := dk_21 4 (dk_at dksX14_fires_4 2 rfl rfl)
theorem dX14_fires_98 : decode cX14_fires 98 = .ok (.isub, 1) := dk_100 (dk_at dksX14_fires_4 4 rfl rfl)
theorem dX14_fires_99 : decode cX14_fires 99 = .ok (.istore 6, 2) := dk_54 6 (dk_at dksX14_fires_4 5 rfl rfl)
theorem dX14_fires_101 : decode cX14_fires 101 = .ok (.aload_n 0, 1) := dk_42 (dk_at dksX14_fires_4 7 rfl rfl)
theorem dX14_fires_102 : decode cX14_fires 102 = .ok (.aload_n 0, 1) := dk_42 (dk_at dksX14_fires_4 8 rfl rfl)
theorem dX14_fires_103 : decode cX14_fires 103 = .ok (.iload_n 3, 1) := dk_29 (dk_at dksX14_fires_4 9 rfl rfl)
theorem dX14_fires_104 : decode cX14_fires 104 = .ok (.aload_n 0, 1) := dk_42 (dk_at dksX14_fires_4 10 rfl rfl)
theorem dX14_fires_105 : decode cX14_fires 105 = .ok (.getfield 117, 3) := dk_180 0 117 (dk_at dksX14_fires_4 11 rfl rfl)
theorem dX14_fires_108 : decode cX14_fires 108 = .ok (.aload_n 0, 1) := dk_42 (dk_at dksX14_fires_4 14 rfl rfl)
theorem dX14_fires_109 : decode cX14_fires 109 = .ok (.getfield 120, 3) := dk_180 0 120 (dk_at dksX14_fires_4 15 rfl rfl)
theorem dX14_fires_112 : decode cX14_fires 112 = .ok (.bipush 64, 2) := dk_16 64 (dk_at dksX14_fires_4 18 rfl rfl)
theorem dX14_fires_114 : decode cX14_fires 114 = .ok (.iload 6, 2) := dk_21 6 (dk_at dksX14_fires_4 20 rfl rfl)
theorem dX14_fires_116 : decode cX14_fires 116 = .ok (.imul, 1) := dk_104 (dk_at dksX14_fires_4 22 rfl rfl)
theorem dX14_fires_117 : decode cX14_fires 117 = .ok (.invokevirtual 442, 3) := dk_182 1 186 (dk_at dksX14_fires_5 0 rfl rfl)
theorem dX14_fires_120 : decode cX14_fires 120 = .ok (.iload_n 2, 1) := dk_28 (dk_at dksX14_fires_5 3 rfl rfl)
theorem dX14_fires_121 : decode cX14_fires 121 = .ok (.invokevirtual 445, 3) := dk_182 1 189 (dk_at dksX14_fires_5 4 rfl rfl)
theorem dX14_fires_124 : decode cX14_fires 124 = .ok (.aload_n 0, 1) := dk_42 (dk_at dksX14_fires_5 7 rfl rfl)
theorem dX14_fires_125 : decode cX14_fires 125 = .ok (.getfield 439, 3) := dk_180 1 183 (dk_at dksX14_fires_5 8 rfl rfl)
theorem dX14_fires_128 : decode cX14_fires 128 = .ok (.iconst (-1), 1) := dk_2 (dk_at dksX14_fires_5 11 rfl rfl)
theorem dX14_fires_129 : decode cX14_fires 129 = .ok (.if_icmp .ne 18, 3) := dk_160 0 18 (dk_at dksX14_fires_5 12 rfl rfl)
theorem dX14_fires_132 : decode cX14_fires 132 = .ok (.aload_n 0, 1) := dk_42 (dk_at dksX14_fires_5 15 rfl rfl)
theorem dX14_fires_133 : decode cX14_fires 133 = .ok (.invokevirtual 436, 3) := dk_182 1 180 (dk_at dksX14_fires_5 16 rfl rfl)
theorem dX14_fires_136 : decode cX14_fires 136 = .ok (.ifCond .ne 11, 3) := dk_154 0 11 (dk_at dksX14_fires_5 19 rfl rfl)
theorem dX14_fires_139 : decode cX14_fires 139 = .ok (.aload_n 0, 1) := dk_42 (dk_at dksX14_fires_5 22 rfl rfl)
theorem dX14_fires_140 : decode cX14_fires 140 = .ok (.iload 5, 2) := dk_21 5 (dk_at dksX14_fires_6 0 rfl rfl)
theorem dX14_fires_142 : decode cX14_fires 142 = .ok (.iconst 1, 1) := dk_4 (dk_at dksX14_fires_6 2 rfl rfl)
theorem dX14_fires_143 : decode cX14_fires 143 = .ok (.iadd, 1) := dk_96 (dk_at dksX14_fires_6 3 rfl rfl)
theorem dX14_fires_144 : decode cX14_fires 144 = .ok (.putfield 439, 3) := dk_181 1 183 (dk_at dksX14_fires_6 4 rfl rfl)
theorem dX14_fires_147 : decode cX14_fires 147 = .ok (.iinc 5 1, 3) := dk_132 5 1 (dk_at dksX14_fires_6 7 rfl rfl)
theorem dX14_fires_150 : decode cX14_fires 150 = .ok (.goto (-131), 3) := dk_167 255 125 (dk_at dksX14_fires_6 10 rfl rfl)
theorem dX14_fires_153 : decode cX14_fires 153 = .ok (.return_, 1) := dk_177 (dk_at dksX14_fires_6 13 rfl rfl)
abbrev cX14_burning : ByteArray := prog_23_method_76_code
def yX14_burning : MethodName := ⟨RX14, "burning", "()I"⟩
def dkwX14_burning_1 : List UInt8 := [167, 255, 236, 27, 172]
abbrev dktX14_burning_1 : List UInt8 := dkwX14_burning_1 ++ []
def dkwX14_burning_0 : List UInt8 := [3, 60, 3, 61, 28, 42, 182, 1, 170, 162, 0, 18, 27, 42, 180, 0, 108, 28, 46, 96, 60, 132, 2, 1]
abbrev dktX14_burning_0 : List UInt8 := dkwX14_burning_0 ++ dktX14_burning_1
theorem dksX14_burning_0 : cX14_burning.data.toList.drop 0 = dktX14_burning_0 := by decide +kernel
theorem dksX14_burning_1 : cX14_burning.data.toList.drop 24 = dktX14_burning_1 := dk_seg dksX14_burning_0 24 rfl rfl
theorem dX14_burning_0 : decode cX14_burning 0 = .ok (.iconst 0, 1) := dk_3 (dk_at dksX14_burning_0 0 rfl rfl)
theorem dX14_burning_1 : decode cX14_burning 1 = .ok (.istore_n 1, 1) := dk_60 (dk_at dksX14_burning_0 1 rfl rfl)
theorem dX14_burning_2 : decode cX14_burning 2 = .ok (.iconst 0, 1) := dk_3 (dk_at dksX14_burning_0 2 rfl rfl)
theorem dX14_burning_3 : decode cX14_burning 3 = .ok (.istore_n 2, 1) := dk_61 (dk_at dksX14_burning_0 3 rfl rfl)
theorem dX14_burning_4 : decode cX14_burning 4 = .ok (.iload_n 2, 1) := dk_28 (dk_at dksX14_burning_0 4 rfl rfl)
theorem dX14_burning_5 : decode cX14_burning 5 = .ok (.aload_n 0, 1) := dk_42 (dk_at dksX14_burning_0 5 rfl rfl)
theorem dX14_burning_6 : decode cX14_burning 6 = .ok (.invokevirtual 426, 3) := dk_182 1 170 (dk_at dksX14_burning_0 6 rfl rfl)
theorem dX14_burning_9 : decode cX14_burning 9 = .ok (.if_icmp .ge 18, 3) := dk_162 0 18 (dk_at dksX14_burning_0 9 rfl rfl)
theorem dX14_burning_12 : decode cX14_burning 12 = .ok (.iload_n 1, 1) := dk_27 (dk_at dksX14_burning_0 12 rfl rfl)
theorem dX14_burning_13 : decode cX14_burning 13 = .ok (.aload_n 0, 1) := dk_42 (dk_at dksX14_burning_0 13 rfl rfl)
theorem dX14_burning_14 : decode cX14_burning 14 = .ok (.getfield 108, 3) := dk_180 0 108 (dk_at dksX14_burning_0 14 rfl rfl)
theorem dX14_burning_17 : decode cX14_burning 17 = .ok (.iload_n 2, 1) := dk_28 (dk_at dksX14_burning_0 17 rfl rfl)
theorem dX14_burning_18 : decode cX14_burning 18 = .ok (.iaload, 1) := dk_46 (dk_at dksX14_burning_0 18 rfl rfl)
theorem dX14_burning_19 : decode cX14_burning 19 = .ok (.iadd, 1) := dk_96 (dk_at dksX14_burning_0 19 rfl rfl)
theorem dX14_burning_20 : decode cX14_burning 20 = .ok (.istore_n 1, 1) := dk_60 (dk_at dksX14_burning_0 20 rfl rfl)
theorem dX14_burning_21 : decode cX14_burning 21 = .ok (.iinc 2 1, 3) := dk_132 2 1 (dk_at dksX14_burning_0 21 rfl rfl)
theorem dX14_burning_24 : decode cX14_burning 24 = .ok (.goto (-20), 3) := dk_167 255 236 (dk_at dksX14_burning_1 0 rfl rfl)
theorem dX14_burning_27 : decode cX14_burning 27 = .ok (.iload_n 1, 1) := dk_27 (dk_at dksX14_burning_1 3 rfl rfl)
theorem dX14_burning_28 : decode cX14_burning 28 = .ok (.ireturn, 1) := dk_172 (dk_at dksX14_burning_1 4 rfl rfl)
abbrev cX14_aimed : ByteArray := prog_23_method_81_code
def yX14_aimed : MethodName := ⟨RX14, "aimed", "(I[I[II)I"⟩
def dkwX14_aimed_7 : List UInt8 := [21, 4, 21, 5, 96, 46, 164, 0, 7, 21, 6, 54, 5, 132, 6, 1, 167, 255, 179, 21, 5, 172]
abbrev dktX14_aimed_7 : List UInt8 := dkwX14_aimed_7 ++ []
def dkwX14_aimed_6 : List UInt8 := [96, 46, 44, 21, 4, 21, 5, 96, 46, 162, 0, 27, 167, 0, 20, 44, 21, 4, 21, 6, 96, 46, 44]
abbrev dktX14_aimed_6 : List UInt8 := dkwX14_aimed_6 ++ dktX14_aimed_7
def dkwX14_aimed_5 : List UInt8 := [96, 46, 154, 0, 6, 167, 0, 55, 21, 5, 2, 159, 0, 45, 27, 5, 160, 0, 23, 44, 21, 4, 21, 6]
abbrev dktX14_aimed_5 : List UInt8 := dkwX14_aimed_5 ++ dktX14_aimed_6
def dkwX14_aimed_4 : List UInt8 := [2, 159, 0, 6, 21, 5, 172, 3, 54, 6, 21, 6, 42, 182, 1, 170, 162, 0, 74, 45, 21, 4, 21, 6]
abbrev dktX14_aimed_4 : List UInt8 := dkwX14_aimed_4 ++ dktX14_aimed_5
def dkwX14_aimed_3 : List UInt8 := [21, 6, 163, 0, 6, 167, 0, 11, 21, 8, 54, 6, 21, 7, 54, 5, 132, 7, 1, 167, 255, 214, 21, 5]
abbrev dktX14_aimed_3 : List UInt8 := dkwX14_aimed_3 ++ dktX14_aimed_4
def dkwX14_aimed_2 : List UInt8 := [21, 7, 42, 182, 1, 170, 162, 0, 39, 42, 21, 7, 44, 45, 21, 4, 182, 1, 176, 54, 8, 21, 8]
abbrev dktX14_aimed_2 : List UInt8 := dkwX14_aimed_2 ++ dktX14_aimed_3
def dkwX14_aimed_1 : List UInt8 := [27, 16, 100, 100, 16, 10, 112, 96, 172, 2, 54, 5, 27, 6, 160, 0, 63, 3, 54, 6, 3, 54, 7]
abbrev dktX14_aimed_1 : List UInt8 := dkwX14_aimed_1 ++ dktX14_aimed_2
def dkwX14_aimed_0 : List UInt8 := [27, 154, 0, 5, 2, 172, 27, 16, 100, 161, 0, 24, 42, 182, 1, 42, 27, 16, 100, 100, 16, 10, 108, 104]
abbrev dktX14_aimed_0 : List UInt8 := dkwX14_aimed_0 ++ dktX14_aimed_1
theorem dksX14_aimed_0 : cX14_aimed.data.toList.drop 0 = dktX14_aimed_0 := by decide +kernel
theorem dksX14_aimed_1 : cX14_aimed.data.toList.drop 24 = dktX14_aimed_1 := dk_seg dksX14_aimed_0 24 rfl rfl
theorem dksX14_aimed_2 : cX14_aimed.data.toList.drop 47 = dktX14_aimed_2 := dk_seg dksX14_aimed_1 23 rfl rfl
theorem dksX14_aimed_3 : cX14_aimed.data.toList.drop 70 = dktX14_aimed_3 := dk_seg dksX14_aimed_2 23 rfl rfl
theorem dksX14_aimed_4 : cX14_aimed.data.toList.drop 94 = dktX14_aimed_4 := dk_seg dksX14_aimed_3 24 rfl rfl
theorem dksX14_aimed_5 : cX14_aimed.data.toList.drop 118 = dktX14_aimed_5 := dk_seg dksX14_aimed_4 24 rfl rfl
theorem dksX14_aimed_6 : cX14_aimed.data.toList.drop 142 = dktX14_aimed_6 := dk_seg dksX14_aimed_5 24 rfl rfl
theorem dksX14_aimed_7 : cX14_aimed.data.toList.drop 165 = dktX14_aimed_7 := dk_seg dksX14_aimed_6 23 rfl rfl
theorem dX14_aimed_0 : decode cX14_aimed 0 = .ok (.iload_n 1, 1) := dk_27 (dk_at dksX14_aimed_0 0 rfl rfl)
theorem dX14_aimed_1 : decode cX14_aimed 1 = .ok (.ifCond .ne 5, 3) := dk_154 0 5 (dk_at dksX14_aimed_0 1 rfl rfl)
theorem dX14_aimed_4 : decode cX14_aimed 4 = .ok (.iconst (-1), 1) := dk_2 (dk_at dksX14_aimed_0 4 rfl rfl)
theorem dX14_aimed_5 : decode cX14_aimed 5 = .ok (.ireturn, 1) := dk_172 (dk_at dksX14_aimed_0 5 rfl rfl)
theorem dX14_aimed_6 : decode cX14_aimed 6 = .ok (.iload_n 1, 1) := dk_27 (dk_at dksX14_aimed_0 6 rfl rfl)
theorem dX14_aimed_7 : decode cX14_aimed 7 = .ok (.bipush 100, 2) := dk_16 100 (dk_at dksX14_aimed_0 7 rfl rfl)
theorem dX14_aimed_9 : decode cX14_aimed 9 = .ok (.if_icmp .lt 24, 3) := dk_161 0 24 (dk_at dksX14_aimed_0 9 rfl rfl)
theorem dX14_aimed_12 : decode cX14_aimed 12 = .ok (.aload_n 0, 1) := dk_42 (dk_at dksX14_aimed_0 12 rfl rfl)
theorem dX14_aimed_13 : decode cX14_aimed 13 = .ok (.invokevirtual 298, 3) := dk_182 1 42 (dk_at dksX14_aimed_0 13 rfl rfl)
theorem dX14_aimed_16 : decode cX14_aimed 16 = .ok (.iload_n 1, 1) := dk_27 (dk_at dksX14_aimed_0 16 rfl rfl)
theorem dX14_aimed_17 : decode cX14_aimed 17 = .ok (.bipush 100, 2) := dk_16 100 (dk_at dksX14_aimed_0 17 rfl rfl)
theorem dX14_aimed_19 : decode cX14_aimed 19 = .ok (.isub, 1) := dk_100 (dk_at dksX14_aimed_0 19 rfl rfl)
theorem dX14_aimed_20 : decode cX14_aimed 20 = .ok (.bipush 10, 2) := dk_16 10 (dk_at dksX14_aimed_0 20 rfl rfl)
theorem dX14_aimed_22 : decode cX14_aimed 22 = .ok (.idiv, 1) := dk_108 (dk_at dksX14_aimed_0 22 rfl rfl)
theorem dX14_aimed_23 : decode cX14_aimed 23 = .ok (.imul, 1) := dk_104 (dk_at dksX14_aimed_0 23 rfl rfl)
theorem dX14_aimed_24 : decode cX14_aimed 24 = .ok (.iload_n 1, 1) := dk_27 (dk_at dksX14_aimed_1 0 rfl rfl)
theorem dX14_aimed_25 : decode cX14_aimed 25 = .ok (.bipush 100, 2) := dk_16 100 (dk_at dksX14_aimed_1 1 rfl rfl)
theorem dX14_aimed_27 : decode cX14_aimed 27 = .ok (.isub, 1) := dk_100 (dk_at dksX14_aimed_1 3 rfl rfl)
theorem dX14_aimed_28 : decode cX14_aimed 28 = .ok (.bipush 10, 2) := dk_16 10 (dk_at dksX14_aimed_1 4 rfl rfl)
theorem dX14_aimed_30 : decode cX14_aimed 30 = .ok (.irem, 1) := dk_112 (dk_at dksX14_aimed_1 6 rfl rfl)
theorem dX14_aimed_31 : decode cX14_aimed 31 = .ok (.iadd, 1) := dk_96 (dk_at dksX14_aimed_1 7 rfl rfl)
theorem dX14_aimed_32 : decode cX14_aimed 32 = .ok (.ireturn, 1) := dk_172 (dk_at dksX14_aimed_1 8 rfl rfl)
theorem dX14_aimed_33 : decode cX14_aimed 33 = .ok (.iconst (-1), 1) := dk_2 (dk_at dksX14_aimed_1 9 rfl rfl)
theorem dX14_aimed_34 : decode cX14_aimed 34 = .ok (.istore 5, 2) := dk_54 5 (dk_at dksX14_aimed_1 10 rfl rfl)
theorem dX14_aimed_36 : decode cX14_aimed 36 = .ok (.iload_n 1, 1) := dk_27 (dk_at dksX14_aimed_1 12 rfl rfl)
theorem dX14_aimed_37 : decode cX14_aimed 37 = .ok (.iconst 3, 1) := dk_6 (dk_at dksX14_aimed_1 13 rfl rfl)
theorem dX14_aimed_38 : decode cX14_aimed 38 = .ok (.if_icmp .ne 63, 3) := dk_160 0 63 (dk_at dksX14_aimed_1 14 rfl rfl)
theorem dX14_aimed_41 : decode cX14_aimed 41 = .ok (.iconst 0, 1) := dk_3 (dk_at dksX14_aimed_1 17 rfl rfl)
theorem dX14_aimed_42 : decode cX14_aimed 42 = .ok (.istore 6, 2) := dk_54 6 (dk_at dksX14_aimed_1 18 rfl rfl)
theorem dX14_aimed_44 : decode cX14_aimed 44 = .ok (.iconst 0, 1) := dk_3 (dk_at dksX14_aimed_1 20 rfl rfl)
theorem dX14_aimed_45 : decode cX14_aimed 45 = .ok (.istore 7, 2) := dk_54 7 (dk_at dksX14_aimed_1 21 rfl rfl)
theorem dX14_aimed_47 : decode cX14_aimed 47 = .ok (.iload 7, 2) := dk_21 7 (dk_at dksX14_aimed_2 0 rfl rfl)
theorem dX14_aimed_49 : decode cX14_aimed 49 = .ok (.aload_n 0, 1) := dk_42 (dk_at dksX14_aimed_2 2 rfl rfl)
theorem dX14_aimed_50 : decode cX14_aimed 50 = .ok (.invokevirtual 426, 3) := dk_182 1 170 (dk_at dksX14_aimed_2 3 rfl rfl)
theorem dX14_aimed_53 : decode cX14_aimed 53 = .ok (.if_icmp .ge 39, 3) := dk_162 0 39 (dk_at dksX14_aimed_2 6 rfl rfl)
theorem dX14_aimed_56 : decode cX14_aimed 56 = .ok (.aload_n 0, 1) := dk_42 (dk_at dksX14_aimed_2 9 rfl rfl)
theorem dX14_aimed_57 : decode cX14_aimed 57 = .ok (.iload 7, 2) := dk_21 7 (dk_at dksX14_aimed_2 10 rfl rfl)
theorem dX14_aimed_59 : decode cX14_aimed 59 = .ok (.aload_n 2, 1) := dk_44 (dk_at dksX14_aimed_2 12 rfl rfl)
theorem dX14_aimed_60 : decode cX14_aimed 60 = .ok (.aload_n 3, 1) := dk_45 (dk_at dksX14_aimed_2 13 rfl rfl)
theorem dX14_aimed_61 : decode cX14_aimed 61 = .ok (.iload 4, 2) := dk_21 4 (dk_at dksX14_aimed_2 14 rfl rfl)
theorem dX14_aimed_63 : decode cX14_aimed 63 = .ok (.invokevirtual 432, 3) := dk_182 1 176 (dk_at dksX14_aimed_2 16 rfl rfl)
theorem dX14_aimed_66 : decode cX14_aimed 66 = .ok (.istore 8, 2) := dk_54 8 (dk_at dksX14_aimed_2 19 rfl rfl)
theorem dX14_aimed_68 : decode cX14_aimed 68 = .ok (.iload 8, 2) := dk_21 8 (dk_at dksX14_aimed_2 21 rfl rfl)
theorem dX14_aimed_70 : decode cX14_aimed 70 = .ok (.iload 6, 2) := dk_21 6 (dk_at dksX14_aimed_3 0 rfl rfl)
theorem dX14_aimed_72 : decode cX14_aimed 72 = .ok (.if_icmp .gt 6, 3) := dk_163 0 6 (dk_at dksX14_aimed_3 2 rfl rfl)
theorem dX14_aimed_75 : decode cX14_aimed 75 = .ok (.goto 11, 3) := dk_167 0 11 (dk_at dksX14_aimed_3 5 rfl rfl)
theorem dX14_aimed_78 : decode cX14_aimed 78 = .ok (.iload 8, 2) := dk_21 8 (dk_at dksX14_aimed_3 8 rfl rfl)
theorem dX14_aimed_80 : decode cX14_aimed 80 = .ok (.istore 6, 2) := dk_54 6 (dk_at dksX14_aimed_3 10 rfl rfl)
theorem dX14_aimed_82 : decode cX14_aimed 82 = .ok (.iload 7, 2) := dk_21 7 (dk_at dksX14_aimed_3 12 rfl rfl)
theorem dX14_aimed_84 : decode cX14_aimed 84 = .ok (.istore 5, 2) := dk_54 5 (dk_at dksX14_aimed_3 14 rfl rfl)
theorem dX14_aimed_86 : decode cX14_aimed 86 = .ok (.iinc 7 1, 3) := dk_132 7 1 (dk_at dksX14_aimed_3 16 rfl rfl)
theorem dX14_aimed_89 : decode cX14_aimed 89 = .ok (.goto (-42), 3) := dk_167 255 214 (dk_at dksX14_aimed_3 19 rfl rfl)
theorem dX14_aimed_92 : decode cX14_aimed 92 = .ok (.iload 5, 2) := dk_21 5 (dk_at dksX14_aimed_3 22 rfl rfl)
theorem dX14_aimed_94 : decode cX14_aimed 94 = .ok (.iconst (-1), 1) := dk_2 (dk_at dksX14_aimed_4 0 rfl rfl)
theorem dX14_aimed_95 : decode cX14_aimed 95 = .ok (.if_icmp .eq 6, 3) := dk_159 0 6 (dk_at dksX14_aimed_4 1 rfl rfl)
theorem dX14_aimed_98 : decode cX14_aimed 98 = .ok (.iload 5, 2) := dk_21 5 (dk_at dksX14_aimed_4 4 rfl rfl)
theorem dX14_aimed_100 : decode cX14_aimed 100 = .ok (.ireturn, 1) := dk_172 (dk_at dksX14_aimed_4 6 rfl rfl)
theorem dX14_aimed_101 : decode cX14_aimed 101 = .ok (.iconst 0, 1) := dk_3 (dk_at dksX14_aimed_4 7 rfl rfl)
theorem dX14_aimed_102 : decode cX14_aimed 102 = .ok (.istore 6, 2) := dk_54 6 (dk_at dksX14_aimed_4 8 rfl rfl)
theorem dX14_aimed_104 : decode cX14_aimed 104 = .ok (.iload 6, 2) := dk_21 6 (dk_at dksX14_aimed_4 10 rfl rfl)
theorem dX14_aimed_106 : decode cX14_aimed 106 = .ok (.aload_n 0, 1) := dk_42 (dk_at dksX14_aimed_4 12 rfl rfl)
theorem dX14_aimed_107 : decode cX14_aimed 107 = .ok (.invokevirtual 426, 3) := dk_182 1 170 (dk_at dksX14_aimed_4 13 rfl rfl)
theorem dX14_aimed_110 : decode cX14_aimed 110 = .ok (.if_icmp .ge 74, 3) := dk_162 0 74 (dk_at dksX14_aimed_4 16 rfl rfl)
theorem dX14_aimed_113 : decode cX14_aimed 113 = .ok (.aload_n 3, 1) := dk_45 (dk_at dksX14_aimed_4 19 rfl rfl)
theorem dX14_aimed_114 : decode cX14_aimed 114 = .ok (.iload 4, 2) := dk_21 4 (dk_at dksX14_aimed_4 20 rfl rfl)
theorem dX14_aimed_116 : decode cX14_aimed 116 = .ok (.iload 6, 2) := dk_21 6 (dk_at dksX14_aimed_4 22 rfl rfl)
theorem dX14_aimed_118 : decode cX14_aimed 118 = .ok (.iadd, 1) := dk_96 (dk_at dksX14_aimed_5 0 rfl rfl)
theorem dX14_aimed_119 : decode cX14_aimed 119 = .ok (.iaload, 1) := dk_46 (dk_at dksX14_aimed_5 1 rfl rfl)
theorem dX14_aimed_120 : decode cX14_aimed 120 = .ok (.ifCond .ne 6, 3) := dk_154 0 6 (dk_at dksX14_aimed_5 2 rfl rfl)
theorem dX14_aimed_123 : decode cX14_aimed 123 = .ok (.goto 55, 3) := dk_167 0 55 (dk_at dksX14_aimed_5 5 rfl rfl)
theorem dX14_aimed_126 : decode cX14_aimed 126 = .ok (.iload 5, 2) := dk_21 5 (dk_at dksX14_aimed_5 8 rfl rfl)
theorem dX14_aimed_128 : decode cX14_aimed 128 = .ok (.iconst (-1), 1) := dk_2 (dk_at dksX14_aimed_5 10 rfl rfl)
theorem dX14_aimed_129 : decode cX14_aimed 129 = .ok (.if_icmp .eq 45, 3) := dk_159 0 45 (dk_at dksX14_aimed_5 11 rfl rfl)
theorem dX14_aimed_132 : decode cX14_aimed 132 = .ok (.iload_n 1, 1) := dk_27 (dk_at dksX14_aimed_5 14 rfl rfl)
theorem dX14_aimed_133 : decode cX14_aimed 133 = .ok (.iconst 2, 1) := dk_5 (dk_at dksX14_aimed_5 15 rfl rfl)
theorem dX14_aimed_134 : decode cX14_aimed 134 = .ok (.if_icmp .ne 23, 3) := dk_160 0 23 (dk_at dksX14_aimed_5 16 rfl rfl)
theorem dX14_aimed_137 : decode cX14_aimed 137 = .ok (.aload_n 2, 1) := dk_44 (dk_at dksX14_aimed_5 19 rfl rfl)
theorem dX14_aimed_138 : decode cX14_aimed 138 = .ok (.iload 4, 2) := dk_21 4 (dk_at dksX14_aimed_5 20 rfl rfl)
theorem dX14_aimed_140 : decode cX14_aimed 140 = .ok (.iload 6, 2) := dk_21 6 (dk_at dksX14_aimed_5 22 rfl rfl)
theorem dX14_aimed_142 : decode cX14_aimed 142 = .ok (.iadd, 1) := dk_96 (dk_at dksX14_aimed_6 0 rfl rfl)
theorem dX14_aimed_143 : decode cX14_aimed 143 = .ok (.iaload, 1) := dk_46 (dk_at dksX14_aimed_6 1 rfl rfl)
theorem dX14_aimed_144 : decode cX14_aimed 144 = .ok (.aload_n 2, 1) := dk_44 (dk_at dksX14_aimed_6 2 rfl rfl)
theorem dX14_aimed_145 : decode cX14_aimed 145 = .ok (.iload 4, 2) := dk_21 4 (dk_at dksX14_aimed_6 3 rfl rfl)
theorem dX14_aimed_147 : decode cX14_aimed 147 = .ok (.iload 5, 2) := dk_21 5 (dk_at dksX14_aimed_6 5 rfl rfl)
theorem dX14_aimed_149 : decode cX14_aimed 149 = .ok (.iadd, 1) := dk_96 (dk_at dksX14_aimed_6 7 rfl rfl)
theorem dX14_aimed_150 : decode cX14_aimed 150 = .ok (.iaload, 1) := dk_46 (dk_at dksX14_aimed_6 8 rfl rfl)
theorem dX14_aimed_151 : decode cX14_aimed 151 = .ok (.if_icmp .ge 27, 3) := dk_162 0 27 (dk_at dksX14_aimed_6 9 rfl rfl)
theorem dX14_aimed_154 : decode cX14_aimed 154 = .ok (.goto 20, 3) := dk_167 0 20 (dk_at dksX14_aimed_6 12 rfl rfl)
theorem dX14_aimed_157 : decode cX14_aimed 157 = .ok (.aload_n 2, 1) := dk_44 (dk_at dksX14_aimed_6 15 rfl rfl)
theorem dX14_aimed_158 : decode cX14_aimed 158 = .ok (.iload 4, 2) := dk_21 4 (dk_at dksX14_aimed_6 16 rfl rfl)
theorem dX14_aimed_160 : decode cX14_aimed 160 = .ok (.iload 6, 2) := dk_21 6 (dk_at dksX14_aimed_6 18 rfl rfl)
theorem dX14_aimed_162 : decode cX14_aimed 162 = .ok (.iadd, 1) := dk_96 (dk_at dksX14_aimed_6 20 rfl rfl)
theorem dX14_aimed_163 : decode cX14_aimed 163 = .ok (.iaload, 1) := dk_46 (dk_at dksX14_aimed_6 21 rfl rfl)
theorem dX14_aimed_164 : decode cX14_aimed 164 = .ok (.aload_n 2, 1) := dk_44 (dk_at dksX14_aimed_6 22 rfl rfl)
theorem dX14_aimed_165 : decode cX14_aimed 165 = .ok (.iload 4, 2) := dk_21 4 (dk_at dksX14_aimed_7 0 rfl rfl)
theorem dX14_aimed_167 : decode cX14_aimed 167 = .ok (.iload 5, 2) := dk_21 5 (dk_at dksX14_aimed_7 2 rfl rfl)
theorem dX14_aimed_169 : decode cX14_aimed 169 = .ok (.iadd, 1) := dk_96 (dk_at dksX14_aimed_7 4 rfl rfl)
theorem dX14_aimed_170 : decode cX14_aimed 170 = .ok (.iaload, 1) := dk_46 (dk_at dksX14_aimed_7 5 rfl rfl)
theorem dX14_aimed_171 : decode cX14_aimed 171 = .ok (.if_icmp .le 7, 3) := dk_164 0 7 (dk_at dksX14_aimed_7 6 rfl rfl)
theorem dX14_aimed_174 : decode cX14_aimed 174 = .ok (.iload 6, 2) := dk_21 6 (dk_at dksX14_aimed_7 9 rfl rfl)
theorem dX14_aimed_176 : decode cX14_aimed 176 = .ok (.istore 5, 2) := dk_54 5 (dk_at dksX14_aimed_7 11 rfl rfl)
theorem dX14_aimed_178 : decode cX14_aimed 178 = .ok (.iinc 6 1, 3) := dk_132 6 1 (dk_at dksX14_aimed_7 13 rfl rfl)
theorem dX14_aimed_181 : decode cX14_aimed 181 = .ok (.goto (-77), 3) := dk_167 255 179 (dk_at dksX14_aimed_7 16 rfl rfl)
theorem dX14_aimed_184 : decode cX14_aimed 184 = .ok (.iload 5, 2) := dk_21 5 (dk_at dksX14_aimed_7 19 rfl rfl)
theorem dX14_aimed_186 : decode cX14_aimed 186 = .ok (.ireturn, 1) := dk_172 (dk_at dksX14_aimed_7 21 rfl rfl)
abbrev cX14_heatOf : ByteArray := prog_23_method_78_code
def yX14_heatOf : MethodName := ⟨RX14, "heatOf", "(I[I[II)I"⟩
def dkwX14_heatOf_5 : List UInt8 := [21, 4, 21, 7, 96, 46, 104, 96, 54, 5, 132, 6, 1, 167, 255, 150, 21, 5, 172]
abbrev dktX14_heatOf_5 : List UInt8 := dkwX14_heatOf_5 ++ []
def dkwX14_heatOf_4 : List UInt8 := [42, 180, 0, 13, 16, 11, 46, 21, 6, 160, 0, 7, 3, 167, 0, 4, 4, 54, 8, 21, 5, 21, 8, 44]
abbrev dktX14_heatOf_4 : List UInt8 := dkwX14_heatOf_4 ++ dktX14_heatOf_5
def dkwX14_heatOf_3 : List UInt8 := [4, 167, 0, 40, 42, 180, 0, 13, 16, 11, 46, 21, 6, 5, 96, 7, 112, 160, 0, 7, 5, 167, 0, 20]
abbrev dktX14_heatOf_3 : List UInt8 := dkwX14_heatOf_3 ++ dktX14_heatOf_4
def dkwX14_heatOf_2 : List UInt8 := [45, 21, 4, 21, 7, 96, 46, 154, 0, 6, 167, 0, 72, 42, 180, 0, 13, 16, 11, 46, 2, 160, 0, 7]
abbrev dktX14_heatOf_2 : List UInt8 := dkwX14_heatOf_2 ++ dktX14_heatOf_3
def dkwX14_heatOf_1 : List UInt8 := [3, 54, 6, 21, 6, 7, 162, 0, 106, 42, 27, 21, 6, 182, 1, 173, 54, 7, 21, 7, 2, 159, 0, 85]
abbrev dktX14_heatOf_1 : List UInt8 := dkwX14_heatOf_1 ++ dktX14_heatOf_2
def dkwX14_heatOf_0 : List UInt8 := [45, 21, 4, 27, 96, 46, 4, 159, 0, 12, 44, 21, 4, 27, 96, 46, 154, 0, 5, 3, 172, 3, 54, 5]
abbrev dktX14_heatOf_0 : List UInt8 := dkwX14_heatOf_0 ++ dktX14_heatOf_1
theorem dksX14_heatOf_0 : cX14_heatOf.data.toList.drop 0 = dktX14_heatOf_0 := by decide +kernel
theorem dksX14_heatOf_1 : cX14_heatOf.data.toList.drop 24 = dktX14_heatOf_1 := dk_seg dksX14_heatOf_0 24 rfl rfl
theorem dksX14_heatOf_2 : cX14_heatOf.data.toList.drop 48 = dktX14_heatOf_2 := dk_seg dksX14_heatOf_1 24 rfl rfl
theorem dksX14_heatOf_3 : cX14_heatOf.data.toList.drop 72 = dktX14_heatOf_3 := dk_seg dksX14_heatOf_2 24 rfl rfl
theorem dksX14_heatOf_4 : cX14_heatOf.data.toList.drop 96 = dktX14_heatOf_4 := dk_seg dksX14_heatOf_3 24 rfl rfl
theorem dksX14_heatOf_5 : cX14_heatOf.data.toList.drop 120 = dktX14_heatOf_5 := dk_seg dksX14_heatOf_4 24 rfl rfl
theorem dX14_heatOf_0 : decode cX14_heatOf 0 = .ok (.aload_n 3, 1) := dk_45 (dk_at dksX14_heatOf_0 0 rfl rfl)
theorem dX14_heatOf_1 : decode cX14_heatOf 1 = .ok (.iload 4, 2) := dk_21 4 (dk_at dksX14_heatOf_0 1 rfl rfl)
theorem dX14_heatOf_3 : decode cX14_heatOf 3 = .ok (.iload_n 1, 1) := dk_27 (dk_at dksX14_heatOf_0 3 rfl rfl)
theorem dX14_heatOf_4 : decode cX14_heatOf 4 = .ok (.iadd, 1) := dk_96 (dk_at dksX14_heatOf_0 4 rfl rfl)
theorem dX14_heatOf_5 : decode cX14_heatOf 5 = .ok (.iaload, 1) := dk_46 (dk_at dksX14_heatOf_0 5 rfl rfl)
theorem dX14_heatOf_6 : decode cX14_heatOf 6 = .ok (.iconst 1, 1) := dk_4 (dk_at dksX14_heatOf_0 6 rfl rfl)
theorem dX14_heatOf_7 : decode cX14_heatOf 7 = .ok (.if_icmp .eq 12, 3) := dk_159 0 12 (dk_at dksX14_heatOf_0 7 rfl rfl)
theorem dX14_heatOf_10 : decode cX14_heatOf 10 = .ok (.aload_n 2, 1) := dk_44 (dk_at dksX14_heatOf_0 10 rfl rfl)
theorem dX14_heatOf_11 : decode cX14_heatOf 11 = .ok (.iload 4, 2) := dk_21 4 (dk_at dksX14_heatOf_0 11 rfl rfl)
theorem dX14_heatOf_13 : decode cX14_heatOf 13 = .ok (.iload_n 1, 1) := dk_27 (dk_at dksX14_heatOf_0 13 rfl rfl)
theorem dX14_heatOf_14 : decode cX14_heatOf 14 = .ok (.iadd, 1) := dk_96 (dk_at dksX14_heatOf_0 14 rfl rfl)
theorem dX14_heatOf_15 : decode cX14_heatOf 15 = .ok (.iaload, 1) := dk_46 (dk_at dksX14_heatOf_0 15 rfl rfl)
theorem dX14_heatOf_16 : decode cX14_heatOf 16 = .ok (.ifCond .ne 5, 3) := dk_154 0 5 (dk_at dksX14_heatOf_0 16 rfl rfl)
theorem dX14_heatOf_19 : decode cX14_heatOf 19 = .ok (.iconst 0, 1) := dk_3 (dk_at dksX14_heatOf_0 19 rfl rfl)
theorem dX14_heatOf_20 : decode cX14_heatOf 20 = .ok (.ireturn, 1) := dk_172 (dk_at dksX14_heatOf_0 20 rfl rfl)
theorem dX14_heatOf_21 : decode cX14_heatOf 21 = .ok (.iconst 0, 1) := dk_3 (dk_at dksX14_heatOf_0 21 rfl rfl)
theorem dX14_heatOf_22 : decode cX14_heatOf 22 = .ok (.istore 5, 2) := dk_54 5 (dk_at dksX14_heatOf_0 22 rfl rfl)
theorem dX14_heatOf_24 : decode cX14_heatOf 24 = .ok (.iconst 0, 1) := dk_3 (dk_at dksX14_heatOf_1 0 rfl rfl)
theorem dX14_heatOf_25 : decode cX14_heatOf 25 = .ok (.istore 6, 2) := dk_54 6 (dk_at dksX14_heatOf_1 1 rfl rfl)
theorem dX14_heatOf_27 : decode cX14_heatOf 27 = .ok (.iload 6, 2) := dk_21 6 (dk_at dksX14_heatOf_1 3 rfl rfl)
theorem dX14_heatOf_29 : decode cX14_heatOf 29 = .ok (.iconst 4, 1) := dk_7 (dk_at dksX14_heatOf_1 5 rfl rfl)
theorem dX14_heatOf_30 : decode cX14_heatOf 30 = .ok (.if_icmp .ge 106, 3) := dk_162 0 106 (dk_at dksX14_heatOf_1 6 rfl rfl)
theorem dX14_heatOf_33 : decode cX14_heatOf 33 = .ok (.aload_n 0, 1) := dk_42 (dk_at dksX14_heatOf_1 9 rfl rfl)
theorem dX14_heatOf_34 : decode cX14_heatOf 34 = .ok (.iload_n 1, 1) := dk_27 (dk_at dksX14_heatOf_1 10 rfl rfl)
theorem dX14_heatOf_35 : decode cX14_heatOf 35 = .ok (.iload 6, 2) := dk_21 6 (dk_at dksX14_heatOf_1 11 rfl rfl)
theorem dX14_heatOf_37 : decode cX14_heatOf 37 = .ok (.invokevirtual 429, 3) := dk_182 1 173 (dk_at dksX14_heatOf_1 13 rfl rfl)
theorem dX14_heatOf_40 : decode cX14_heatOf 40 = .ok (.istore 7, 2) := dk_54 7 (dk_at dksX14_heatOf_1 16 rfl rfl)
theorem dX14_heatOf_42 : decode cX14_heatOf 42 = .ok (.iload 7, 2) := dk_21 7 (dk_at dksX14_heatOf_1 18 rfl rfl)
theorem dX14_heatOf_44 : decode cX14_heatOf 44 = .ok (.iconst (-1), 1) := dk_2 (dk_at dksX14_heatOf_1 20 rfl rfl)
theorem dX14_heatOf_45 : decode cX14_heatOf 45 = .ok (.if_icmp .eq 85, 3) := dk_159 0 85 (dk_at dksX14_heatOf_1 21 rfl rfl)
theorem dX14_heatOf_48 : decode cX14_heatOf 48 = .ok (.aload_n 3, 1) := dk_45 (dk_at dksX14_heatOf_2 0 rfl rfl)
theorem dX14_heatOf_49 : decode cX14_heatOf 49 = .ok (.iload 4, 2) := dk_21 4 (dk_at dksX14_heatOf_2 1 rfl rfl)
theorem dX14_heatOf_51 : decode cX14_heatOf 51 = .ok (.iload 7, 2) := dk_21 7 (dk_at dksX14_heatOf_2 3 rfl rfl)
theorem dX14_heatOf_53 : decode cX14_heatOf 53 = .ok (.iadd, 1) := dk_96 (dk_at dksX14_heatOf_2 5 rfl rfl)
theorem dX14_heatOf_54 : decode cX14_heatOf 54 = .ok (.iaload, 1) := dk_46 (dk_at dksX14_heatOf_2 6 rfl rfl)
theorem dX14_heatOf_55 : decode cX14_heatOf 55 = .ok (.ifCond .ne 6, 3) := dk_154 0 6 (dk_at dksX14_heatOf_2 7 rfl rfl)
theorem dX14_heatOf_58 : decode cX14_heatOf 58 = .ok (.goto 72, 3) := dk_167 0 72 (dk_at dksX14_heatOf_2 10 rfl rfl)
theorem dX14_heatOf_61 : decode cX14_heatOf 61 = .ok (.aload_n 0, 1) := dk_42 (dk_at dksX14_heatOf_2 13 rfl rfl)
theorem dX14_heatOf_62 : decode cX14_heatOf 62 = .ok (.getfield 13, 3) := dk_180 0 13 (dk_at dksX14_heatOf_2 14 rfl rfl)
theorem dX14_heatOf_65 : decode cX14_heatOf 65 = .ok (.bipush 11, 2) := dk_16 11 (dk_at dksX14_heatOf_2 17 rfl rfl)
theorem dX14_heatOf_67 : decode cX14_heatOf 67 = .ok (.iaload, 1) := dk_46 (dk_at dksX14_heatOf_2 19 rfl rfl)
theorem dX14_heatOf_68 : decode cX14_heatOf 68 = .ok (.iconst (-1), 1) := dk_2 (dk_at dksX14_heatOf_2 20 rfl rfl)
theorem dX14_heatOf_69 : decode cX14_heatOf 69 = .ok (.if_icmp .ne 7, 3) := dk_160 0 7 (dk_at dksX14_heatOf_2 21 rfl rfl)
theorem dX14_heatOf_72 : decode cX14_heatOf 72 = .ok (.iconst 1, 1) := dk_4 (dk_at dksX14_heatOf_3 0 rfl rfl)
theorem dX14_heatOf_73 : decode cX14_heatOf 73 = .ok (.goto 40, 3) := dk_167 0 40 (dk_at dksX14_heatOf_3 1 rfl rfl)
theorem dX14_heatOf_76 : decode cX14_heatOf 76 = .ok (.aload_n 0, 1) := dk_42 (dk_at dksX14_heatOf_3 4 rfl rfl)
theorem dX14_heatOf_77 : decode cX14_heatOf 77 = .ok (.getfield 13, 3) := dk_180 0 13 (dk_at dksX14_heatOf_3 5 rfl rfl)
theorem dX14_heatOf_80 : decode cX14_heatOf 80 = .ok (.bipush 11, 2) := dk_16 11 (dk_at dksX14_heatOf_3 8 rfl rfl)
theorem dX14_heatOf_82 : decode cX14_heatOf 82 = .ok (.iaload, 1) := dk_46 (dk_at dksX14_heatOf_3 10 rfl rfl)
theorem dX14_heatOf_83 : decode cX14_heatOf 83 = .ok (.iload 6, 2) := dk_21 6 (dk_at dksX14_heatOf_3 11 rfl rfl)
theorem dX14_heatOf_85 : decode cX14_heatOf 85 = .ok (.iconst 2, 1) := dk_5 (dk_at dksX14_heatOf_3 13 rfl rfl)
theorem dX14_heatOf_86 : decode cX14_heatOf 86 = .ok (.iadd, 1) := dk_96 (dk_at dksX14_heatOf_3 14 rfl rfl)
theorem dX14_heatOf_87 : decode cX14_heatOf 87 = .ok (.iconst 4, 1) := dk_7 (dk_at dksX14_heatOf_3 15 rfl rfl)
theorem dX14_heatOf_88 : decode cX14_heatOf 88 = .ok (.irem, 1) := dk_112 (dk_at dksX14_heatOf_3 16 rfl rfl)
theorem dX14_heatOf_89 : decode cX14_heatOf 89 = .ok (.if_icmp .ne 7, 3) := dk_160 0 7 (dk_at dksX14_heatOf_3 17 rfl rfl)
theorem dX14_heatOf_92 : decode cX14_heatOf 92 = .ok (.iconst 2, 1) := dk_5 (dk_at dksX14_heatOf_3 20 rfl rfl)
theorem dX14_heatOf_93 : decode cX14_heatOf 93 = .ok (.goto 20, 3) := dk_167 0 20 (dk_at dksX14_heatOf_3 21 rfl rfl)
theorem dX14_heatOf_96 : decode cX14_heatOf 96 = .ok (.aload_n 0, 1) := dk_42 (dk_at dksX14_heatOf_4 0 rfl rfl)
theorem dX14_heatOf_97 : decode cX14_heatOf 97 = .ok (.getfield 13, 3) := dk_180 0 13 (dk_at dksX14_heatOf_4 1 rfl rfl)
theorem dX14_heatOf_100 : decode cX14_heatOf 100 = .ok (.bipush 11, 2) := dk_16 11 (dk_at dksX14_heatOf_4 4 rfl rfl)
theorem dX14_heatOf_102 : decode cX14_heatOf 102 = .ok (.iaload, 1) := dk_46 (dk_at dksX14_heatOf_4 6 rfl rfl)
theorem dX14_heatOf_103 : decode cX14_heatOf 103 = .ok (.iload 6, 2) := dk_21 6 (dk_at dksX14_heatOf_4 7 rfl rfl)
theorem dX14_heatOf_105 : decode cX14_heatOf 105 = .ok (.if_icmp .ne 7, 3) := dk_160 0 7 (dk_at dksX14_heatOf_4 9 rfl rfl)
theorem dX14_heatOf_108 : decode cX14_heatOf 108 = .ok (.iconst 0, 1) := dk_3 (dk_at dksX14_heatOf_4 12 rfl rfl)
theorem dX14_heatOf_109 : decode cX14_heatOf 109 = .ok (.goto 4, 3) := dk_167 0 4 (dk_at dksX14_heatOf_4 13 rfl rfl)
theorem dX14_heatOf_112 : decode cX14_heatOf 112 = .ok (.iconst 1, 1) := dk_4 (dk_at dksX14_heatOf_4 16 rfl rfl)
theorem dX14_heatOf_113 : decode cX14_heatOf 113 = .ok (.istore 8, 2) := dk_54 8 (dk_at dksX14_heatOf_4 17 rfl rfl)
theorem dX14_heatOf_115 : decode cX14_heatOf 115 = .ok (.iload 5, 2) := dk_21 5 (dk_at dksX14_heatOf_4 19 rfl rfl)
theorem dX14_heatOf_117 : decode cX14_heatOf 117 = .ok (.iload 8, 2) := dk_21 8 (dk_at dksX14_heatOf_4 21 rfl rfl)
theorem dX14_heatOf_119 : decode cX14_heatOf 119 = .ok (.aload_n 2, 1) := dk_44 (dk_at dksX14_heatOf_4 23 rfl rfl)
theorem dX14_heatOf_120 : decode cX14_heatOf 120 = .ok (.iload 4, 2) := dk_21 4 (dk_at dksX14_heatOf_5 0 rfl rfl)
theorem dX14_heatOf_122 : decode cX14_heatOf 122 = .ok (.iload 7, 2) := dk_21 7 (dk_at dksX14_heatOf_5 2 rfl rfl)
theorem dX14_heatOf_124 : decode cX14_heatOf 124 = .ok (.iadd, 1) := dk_96 (dk_at dksX14_heatOf_5 4 rfl rfl)
theorem dX14_heatOf_125 : decode cX14_heatOf 125 = .ok (.iaload, 1) := dk_46 (dk_at dksX14_heatOf_5 5 rfl rfl)
theorem dX14_heatOf_126 : decode cX14_heatOf 126 = .ok (.imul, 1) := dk_104 (dk_at dksX14_heatOf_5 6 rfl rfl)
theorem dX14_heatOf_127 : decode cX14_heatOf 127 = .ok (.iadd, 1) := dk_96 (dk_at dksX14_heatOf_5 7 rfl rfl)
theorem dX14_heatOf_128 : decode cX14_heatOf 128 = .ok (.istore 5, 2) := dk_54 5 (dk_at dksX14_heatOf_5 8 rfl rfl)
theorem dX14_heatOf_130 : decode cX14_heatOf 130 = .ok (.iinc 6 1, 3) := dk_132 6 1 (dk_at dksX14_heatOf_5 10 rfl rfl)
theorem dX14_heatOf_133 : decode cX14_heatOf 133 = .ok (.goto (-106), 3) := dk_167 255 150 (dk_at dksX14_heatOf_5 13 rfl rfl)
theorem dX14_heatOf_136 : decode cX14_heatOf 136 = .ok (.iload 5, 2) := dk_21 5 (dk_at dksX14_heatOf_5 16 rfl rfl)
theorem dX14_heatOf_138 : decode cX14_heatOf 138 = .ok (.ireturn, 1) := dk_172 (dk_at dksX14_heatOf_5 18 rfl rfl)
abbrev cX14_neighbour : ByteArray := prog_23_method_77_code
def yX14_neighbour : MethodName := ⟨RX14, "neighbour", "(II)I"⟩
def dkwX14_neighbour_4 : List UInt8 := [96, 172]
abbrev dktX14_neighbour_4 : List UInt8 := dkwX14_neighbour_4 ++ []
def dkwX14_neighbour_3 : List UInt8 := [21, 4, 42, 180, 0, 13, 16, 10, 46, 161, 0, 7, 2, 167, 0, 12, 42, 182, 1, 42, 21, 4, 104, 29]
abbrev dktX14_neighbour_3 : List UInt8 := dkwX14_neighbour_3 ++ dktX14_neighbour_4
def dkwX14_neighbour_2 : List UInt8 := [167, 0, 4, 3, 96, 54, 4, 29, 155, 0, 28, 29, 42, 182, 1, 42, 162, 0, 20, 21, 4, 155, 0, 15]
abbrev dktX14_neighbour_2 : List UInt8 := dkwX14_neighbour_2 ++ dktX14_neighbour_3
def dkwX14_neighbour_1 : List UInt8 := [3, 96, 62, 27, 42, 182, 1, 42, 108, 28, 5, 160, 0, 7, 4, 167, 0, 12, 28, 154, 0, 7, 2]
abbrev dktX14_neighbour_1 : List UInt8 := dkwX14_neighbour_1 ++ dktX14_neighbour_2
def dkwX14_neighbour_0 : List UInt8 := [27, 42, 182, 1, 42, 112, 28, 4, 160, 0, 7, 4, 167, 0, 13, 28, 6, 160, 0, 7, 2, 167, 0, 4]
abbrev dktX14_neighbour_0 : List UInt8 := dkwX14_neighbour_0 ++ dktX14_neighbour_1
theorem dksX14_neighbour_0 : cX14_neighbour.data.toList.drop 0 = dktX14_neighbour_0 := by decide +kernel
theorem dksX14_neighbour_1 : cX14_neighbour.data.toList.drop 24 = dktX14_neighbour_1 := dk_seg dksX14_neighbour_0 24 rfl rfl
theorem dksX14_neighbour_2 : cX14_neighbour.data.toList.drop 47 = dktX14_neighbour_2 := dk_seg dksX14_neighbour_1 23 rfl rfl
theorem dksX14_neighbour_3 : cX14_neighbour.data.toList.drop 71 = dktX14_neighbour_3 := dk_seg dksX14_neighbour_2 24 rfl rfl
theorem dksX14_neighbour_4 : cX14_neighbour.data.toList.drop 95 = dktX14_neighbour_4 := dk_seg dksX14_neighbour_3 24 rfl rfl
theorem dX14_neighbour_0 : decode cX14_neighbour 0 = .ok (.iload_n 1, 1) := dk_27 (dk_at dksX14_neighbour_0 0 rfl rfl)
theorem dX14_neighbour_1 : decode cX14_neighbour 1 = .ok (.aload_n 0, 1) := dk_42 (dk_at dksX14_neighbour_0 1 rfl rfl)
theorem dX14_neighbour_2 : decode cX14_neighbour 2 = .ok (.invokevirtual 298, 3) := dk_182 1 42 (dk_at dksX14_neighbour_0 2 rfl rfl)
theorem dX14_neighbour_5 : decode cX14_neighbour 5 = .ok (.irem, 1) := dk_112 (dk_at dksX14_neighbour_0 5 rfl rfl)
theorem dX14_neighbour_6 : decode cX14_neighbour 6 = .ok (.iload_n 2, 1) := dk_28 (dk_at dksX14_neighbour_0 6 rfl rfl)
theorem dX14_neighbour_7 : decode cX14_neighbour 7 = .ok (.iconst 1, 1) := dk_4 (dk_at dksX14_neighbour_0 7 rfl rfl)
theorem dX14_neighbour_8 : decode cX14_neighbour 8 = .ok (.if_icmp .ne 7, 3) := dk_160 0 7 (dk_at dksX14_neighbour_0 8 rfl rfl)
theorem dX14_neighbour_11 : decode cX14_neighbour 11 = .ok (.iconst 1, 1) := dk_4 (dk_at dksX14_neighbour_0 11 rfl rfl)
theorem dX14_neighbour_12 : decode cX14_neighbour 12 = .ok (.goto 13, 3) := dk_167 0 13 (dk_at dksX14_neighbour_0 12 rfl rfl)
theorem dX14_neighbour_15 : decode cX14_neighbour 15 = .ok (.iload_n 2, 1) := dk_28 (dk_at dksX14_neighbour_0 15 rfl rfl)
theorem dX14_neighbour_16 : decode cX14_neighbour 16 = .ok (.iconst 3, 1) := dk_6 (dk_at dksX14_neighbour_0 16 rfl rfl)
theorem dX14_neighbour_17 : decode cX14_neighbour 17 = .ok (.if_icmp .ne 7, 3) := dk_160 0 7 (dk_at dksX14_neighbour_0 17 rfl rfl)
theorem dX14_neighbour_20 : decode cX14_neighbour 20 = .ok (.iconst (-1), 1) := dk_2 (dk_at dksX14_neighbour_0 20 rfl rfl)
theorem dX14_neighbour_21 : decode cX14_neighbour 21 = .ok (.goto 4, 3) := dk_167 0 4 (dk_at dksX14_neighbour_0 21 rfl rfl)
theorem dX14_neighbour_24 : decode cX14_neighbour 24 = .ok (.iconst 0, 1) := dk_3 (dk_at dksX14_neighbour_1 0 rfl rfl)
theorem dX14_neighbour_25 : decode cX14_neighbour 25 = .ok (.iadd, 1) := dk_96 (dk_at dksX14_neighbour_1 1 rfl rfl)
theorem dX14_neighbour_26 : decode cX14_neighbour 26 = .ok (.istore_n 3, 1) := dk_62 (dk_at dksX14_neighbour_1 2 rfl rfl)
theorem dX14_neighbour_27 : decode cX14_neighbour 27 = .ok (.iload_n 1, 1) := dk_27 (dk_at dksX14_neighbour_1 3 rfl rfl)
theorem dX14_neighbour_28 : decode cX14_neighbour 28 = .ok (.aload_n 0, 1) := dk_42 (dk_at dksX14_neighbour_1 4 rfl rfl)
theorem dX14_neighbour_29 : decode cX14_neighbour 29 = .ok (.invokevirtual 298, 3) := dk_182 1 42 (dk_at dksX14_neighbour_1 5 rfl rfl)
theorem dX14_neighbour_32 : decode cX14_neighbour 32 = .ok (.idiv, 1) := dk_108 (dk_at dksX14_neighbour_1 8 rfl rfl)
theorem dX14_neighbour_33 : decode cX14_neighbour 33 = .ok (.iload_n 2, 1) := dk_28 (dk_at dksX14_neighbour_1 9 rfl rfl)
theorem dX14_neighbour_34 : decode cX14_neighbour 34 = .ok (.iconst 2, 1) := dk_5 (dk_at dksX14_neighbour_1 10 rfl rfl)
theorem dX14_neighbour_35 : decode cX14_neighbour 35 = .ok (.if_icmp .ne 7, 3) := dk_160 0 7 (dk_at dksX14_neighbour_1 11 rfl rfl)
theorem dX14_neighbour_38 : decode cX14_neighbour 38 = .ok (.iconst 1, 1) := dk_4 (dk_at dksX14_neighbour_1 14 rfl rfl)
theorem dX14_neighbour_39 : decode cX14_neighbour 39 = .ok (.goto 12, 3) := dk_167 0 12 (dk_at dksX14_neighbour_1 15 rfl rfl)
theorem dX14_neighbour_42 : decode cX14_neighbour 42 = .ok (.iload_n 2, 1) := dk_28 (dk_at dksX14_neighbour_1 18 rfl rfl)
theorem dX14_neighbour_43 : decode cX14_neighbour 43 = .ok (.ifCond .ne 7, 3) := dk_154 0 7 (dk_at dksX14_neighbour_1 19 rfl rfl)
theorem dX14_neighbour_46 : decode cX14_neighbour 46 = .ok (.iconst (-1), 1) := dk_2 (dk_at dksX14_neighbour_1 22 rfl rfl)
theorem dX14_neighbour_47 : decode cX14_neighbour 47 = .ok (.goto 4, 3) := dk_167 0 4 (dk_at dksX14_neighbour_2 0 rfl rfl)
theorem dX14_neighbour_50 : decode cX14_neighbour 50 = .ok (.iconst 0, 1) := dk_3 (dk_at dksX14_neighbour_2 3 rfl rfl)
theorem dX14_neighbour_51 : decode cX14_neighbour 51 = .ok (.iadd, 1) := dk_96 (dk_at dksX14_neighbour_2 4 rfl rfl)
theorem dX14_neighbour_52 : decode cX14_neighbour 52 = .ok (.istore 4, 2) := dk_54 4 (dk_at dksX14_neighbour_2 5 rfl rfl)
theorem dX14_neighbour_54 : decode cX14_neighbour 54 = .ok (.iload_n 3, 1) := dk_29 (dk_at dksX14_neighbour_2 7 rfl rfl)
theorem dX14_neighbour_55 : decode cX14_neighbour 55 = .ok (.ifCond .lt 28, 3) := dk_155 0 28 (dk_at dksX14_neighbour_2 8 rfl rfl)
theorem dX14_neighbour_58 : decode cX14_neighbour 58 = .ok (.iload_n 3, 1) := dk_29 (dk_at dksX14_neighbour_2 11 rfl rfl)
theorem dX14_neighbour_59 : decode cX14_neighbour 59 = .ok (.aload_n 0, 1) := dk_42 (dk_at dksX14_neighbour_2 12 rfl rfl)
theorem dX14_neighbour_60 : decode cX14_neighbour 60 = .ok (.invokevirtual 298, 3) := dk_182 1 42 (dk_at dksX14_neighbour_2 13 rfl rfl)
theorem dX14_neighbour_63 : decode cX14_neighbour 63 = .ok (.if_icmp .ge 20, 3) := dk_162 0 20 (dk_at dksX14_neighbour_2 16 rfl rfl)
theorem dX14_neighbour_66 : decode cX14_neighbour 66 = .ok (.iload 4, 2) := dk_21 4 (dk_at dksX14_neighbour_2 19 rfl rfl)
theorem dX14_neighbour_68 : decode cX14_neighbour 68 = .ok (.ifCond .lt 15, 3) := dk_155 0 15 (dk_at dksX14_neighbour_2 21 rfl rfl)
theorem dX14_neighbour_71 : decode cX14_neighbour 71 = .ok (.iload 4, 2) := dk_21 4 (dk_at dksX14_neighbour_3 0 rfl rfl)
theorem dX14_neighbour_73 : decode cX14_neighbour 73 = .ok (.aload_n 0, 1) := dk_42 (dk_at dksX14_neighbour_3 2 rfl rfl)
theorem dX14_neighbour_74 : decode cX14_neighbour 74 = .ok (.getfield 13, 3) := dk_180 0 13 (dk_at dksX14_neighbour_3 3 rfl rfl)
theorem dX14_neighbour_77 : decode cX14_neighbour 77 = .ok (.bipush 10, 2) := dk_16 10 (dk_at dksX14_neighbour_3 6 rfl rfl)
theorem dX14_neighbour_79 : decode cX14_neighbour 79 = .ok (.iaload, 1) := dk_46 (dk_at dksX14_neighbour_3 8 rfl rfl)
theorem dX14_neighbour_80 : decode cX14_neighbour 80 = .ok (.if_icmp .lt 7, 3) := dk_161 0 7 (dk_at dksX14_neighbour_3 9 rfl rfl)
theorem dX14_neighbour_83 : decode cX14_neighbour 83 = .ok (.iconst (-1), 1) := dk_2 (dk_at dksX14_neighbour_3 12 rfl rfl)
theorem dX14_neighbour_84 : decode cX14_neighbour 84 = .ok (.goto 12, 3) := dk_167 0 12 (dk_at dksX14_neighbour_3 13 rfl rfl)
theorem dX14_neighbour_87 : decode cX14_neighbour 87 = .ok (.aload_n 0, 1) := dk_42 (dk_at dksX14_neighbour_3 16 rfl rfl)
theorem dX14_neighbour_88 : decode cX14_neighbour 88 = .ok (.invokevirtual 298, 3) := dk_182 1 42 (dk_at dksX14_neighbour_3 17 rfl rfl)
theorem dX14_neighbour_91 : decode cX14_neighbour 91 = .ok (.iload 4, 2) := dk_21 4 (dk_at dksX14_neighbour_3 20 rfl rfl)
theorem dX14_neighbour_93 : decode cX14_neighbour 93 = .ok (.imul, 1) := dk_104 (dk_at dksX14_neighbour_3 22 rfl rfl)
theorem dX14_neighbour_94 : decode cX14_neighbour 94 = .ok (.iload_n 3, 1) := dk_29 (dk_at dksX14_neighbour_3 23 rfl rfl)
theorem dX14_neighbour_95 : decode cX14_neighbour 95 = .ok (.iadd, 1) := dk_96 (dk_at dksX14_neighbour_4 0 rfl rfl)
theorem dX14_neighbour_96 : decode cX14_neighbour 96 = .ok (.ireturn, 1) := dk_172 (dk_at dksX14_neighbour_4 1 rfl rfl)
abbrev cX14_minute : ByteArray := prog_23_method_79_code
def yX14_minute : MethodName := ⟨RX14, "minute", "(II)V"⟩
def dkwX14_minute_8 : List UInt8 := [79, 132, 3, 1, 167, 255, 219, 177]
abbrev dktX14_minute_8 : List UInt8 := dkwX14_minute_8 ++ []
def dkwX14_minute_7 : List UInt8 := [180, 0, 114, 29, 46, 8, 42, 180, 0, 111, 29, 46, 5, 108, 96, 161, 0, 10, 42, 180, 0, 108, 29, 4]
abbrev dktX14_minute_7 : List UInt8 := dkwX14_minute_7 ++ dktX14_minute_8
def dkwX14_minute_6 : List UInt8 := [180, 0, 108, 29, 3, 79, 132, 3, 1, 167, 255, 197, 3, 62, 29, 42, 182, 1, 170, 162, 0, 35, 42]
abbrev dktX14_minute_6 : List UInt8 := dkwX14_minute_6 ++ dktX14_minute_7
def dkwX14_minute_5 : List UInt8 := [46, 4, 100, 79, 42, 89, 180, 1, 167, 4, 96, 181, 1, 167, 42, 180, 0, 105, 29, 46, 154, 0, 10, 42]
abbrev dktX14_minute_5 : List UInt8 := dkwX14_minute_5 ++ dktX14_minute_6
def dkwX14_minute_4 : List UInt8 := [182, 1, 170, 162, 0, 57, 42, 180, 0, 108, 29, 46, 154, 0, 6, 167, 0, 39, 42, 180, 0, 105, 29, 92]
abbrev dktX14_minute_4 : List UInt8 := dkwX14_minute_4 ++ dktX14_minute_5
def dkwX14_minute_3 : List UInt8 := [180, 0, 105, 42, 180, 0, 108, 3, 182, 1, 176, 79, 132, 3, 1, 167, 255, 225, 3, 62, 29, 42]
abbrev dktX14_minute_3 : List UInt8 := dkwX14_minute_3 ++ dktX14_minute_4
def dkwX14_minute_2 : List UInt8 := [180, 0, 108, 27, 3, 79, 3, 62, 29, 42, 182, 1, 170, 162, 0, 29, 42, 180, 0, 114, 29, 42, 29, 42]
abbrev dktX14_minute_2 : List UInt8 := dkwX14_minute_2 ++ dktX14_minute_3
def dkwX14_minute_1 : List UInt8 := [160, 0, 28, 42, 180, 0, 111, 27, 46, 16, 10, 42, 180, 0, 105, 27, 46, 104, 161, 0, 10, 42]
abbrev dktX14_minute_1 : List UInt8 := dkwX14_minute_1 ++ dktX14_minute_2
def dkwX14_minute_0 : List UInt8 := [27, 2, 159, 0, 48, 42, 180, 0, 111, 27, 92, 46, 28, 96, 79, 42, 180, 0, 108, 27, 46, 4]
abbrev dktX14_minute_0 : List UInt8 := dkwX14_minute_0 ++ dktX14_minute_1
theorem dksX14_minute_0 : cX14_minute.data.toList.drop 0 = dktX14_minute_0 := by decide +kernel
theorem dksX14_minute_1 : cX14_minute.data.toList.drop 22 = dktX14_minute_1 := dk_seg dksX14_minute_0 22 rfl rfl
theorem dksX14_minute_2 : cX14_minute.data.toList.drop 44 = dktX14_minute_2 := dk_seg dksX14_minute_1 22 rfl rfl
theorem dksX14_minute_3 : cX14_minute.data.toList.drop 68 = dktX14_minute_3 := dk_seg dksX14_minute_2 24 rfl rfl
theorem dksX14_minute_4 : cX14_minute.data.toList.drop 90 = dktX14_minute_4 := dk_seg dksX14_minute_3 22 rfl rfl
theorem dksX14_minute_5 : cX14_minute.data.toList.drop 114 = dktX14_minute_5 := dk_seg dksX14_minute_4 24 rfl rfl
theorem dksX14_minute_6 : cX14_minute.data.toList.drop 138 = dktX14_minute_6 := dk_seg dksX14_minute_5 24 rfl rfl
theorem dksX14_minute_7 : cX14_minute.data.toList.drop 161 = dktX14_minute_7 := dk_seg dksX14_minute_6 23 rfl rfl
theorem dksX14_minute_8 : cX14_minute.data.toList.drop 185 = dktX14_minute_8 := dk_seg dksX14_minute_7 24 rfl rfl
theorem dX14_minute_0 : decode cX14_minute 0 = .ok (.iload_n 1, 1) := dk_27 (dk_at dksX14_minute_0 0 rfl rfl)
theorem dX14_minute_1 : decode cX14_minute 1 = .ok (.iconst (-1), 1) := dk_2 (dk_at dksX14_minute_0 1 rfl rfl)
theorem dX14_minute_2 : decode cX14_minute 2 = .ok (.if_icmp .eq 48, 3) := dk_159 0 48 (dk_at dksX14_minute_0 2 rfl rfl)
theorem dX14_minute_5 : decode cX14_minute 5 = .ok (.aload_n 0, 1) := dk_42 (dk_at dksX14_minute_0 5 rfl rfl)
theorem dX14_minute_6 : decode cX14_minute 6 = .ok (.getfield 111, 3) := dk_180 0 111 (dk_at dksX14_minute_0 6 rfl rfl)
theorem dX14_minute_9 : decode cX14_minute 9 = .ok (.iload_n 1, 1) := dk_27 (dk_at dksX14_minute_0 9 rfl rfl)
theorem dX14_minute_10 : decode cX14_minute 10 = .ok (.dup2, 1) := dk_92 (dk_at dksX14_minute_0 10 rfl rfl)
theorem dX14_minute_11 : decode cX14_minute 11 = .ok (.iaload, 1) := dk_46 (dk_at dksX14_minute_0 11 rfl rfl)
theorem dX14_minute_12 : decode cX14_minute 12 = .ok (.iload_n 2, 1) := dk_28 (dk_at dksX14_minute_0 12 rfl rfl)
theorem dX14_minute_13 : decode cX14_minute 13 = .ok (.iadd, 1) := dk_96 (dk_at dksX14_minute_0 13 rfl rfl)
theorem dX14_minute_14 : decode cX14_minute 14 = .ok (.iastore, 1) := dk_79 (dk_at dksX14_minute_0 14 rfl rfl)
theorem dX14_minute_15 : decode cX14_minute 15 = .ok (.aload_n 0, 1) := dk_42 (dk_at dksX14_minute_0 15 rfl rfl)
theorem dX14_minute_16 : decode cX14_minute 16 = .ok (.getfield 108, 3) := dk_180 0 108 (dk_at dksX14_minute_0 16 rfl rfl)
theorem dX14_minute_19 : decode cX14_minute 19 = .ok (.iload_n 1, 1) := dk_27 (dk_at dksX14_minute_0 19 rfl rfl)
theorem dX14_minute_20 : decode cX14_minute 20 = .ok (.iaload, 1) := dk_46 (dk_at dksX14_minute_0 20 rfl rfl)
theorem dX14_minute_21 : decode cX14_minute 21 = .ok (.iconst 1, 1) := dk_4 (dk_at dksX14_minute_0 21 rfl rfl)
theorem dX14_minute_22 : decode cX14_minute 22 = .ok (.if_icmp .ne 28, 3) := dk_160 0 28 (dk_at dksX14_minute_1 0 rfl rfl)
theorem dX14_minute_25 : decode cX14_minute 25 = .ok (.aload_n 0, 1) := dk_42 (dk_at dksX14_minute_1 3 rfl rfl)
theorem dX14_minute_26 : decode cX14_minute 26 = .ok (.getfield 111, 3) := dk_180 0 111 (dk_at dksX14_minute_1 4 rfl rfl)
theorem dX14_minute_29 : decode cX14_minute 29 = .ok (.iload_n 1, 1) := dk_27 (dk_at dksX14_minute_1 7 rfl rfl)
theorem dX14_minute_30 : decode cX14_minute 30 = .ok (.iaload, 1) := dk_46 (dk_at dksX14_minute_1 8 rfl rfl)
theorem dX14_minute_31 : decode cX14_minute 31 = .ok (.bipush 10, 2) := dk_16 10 (dk_at dksX14_minute_1 9 rfl rfl)
theorem dX14_minute_33 : decode cX14_minute 33 = .ok (.aload_n 0, 1) := dk_42 (dk_at dksX14_minute_1 11 rfl rfl)
theorem dX14_minute_34 : decode cX14_minute 34 = .ok (.getfield 105, 3) := dk_180 0 105 (dk_at dksX14_minute_1 12 rfl rfl)
theorem dX14_minute_37 : decode cX14_minute 37 = .ok (.iload_n 1, 1) := dk_27 (dk_at dksX14_minute_1 15 rfl rfl)
theorem dX14_minute_38 : decode cX14_minute 38 = .ok (.iaload, 1) := dk_46 (dk_at dksX14_minute_1 16 rfl rfl)
theorem dX14_minute_39 : decode cX14_minute 39 = .ok (.imul, 1) := dk_104 (dk_at dksX14_minute_1 17 rfl rfl)
theorem dX14_minute_40 : decode cX14_minute 40 = .ok (.if_icmp .lt 10, 3) := dk_161 0 10 (dk_at dksX14_minute_1 18 rfl rfl)
theorem dX14_minute_43 : decode cX14_minute 43 = .ok (.aload_n 0, 1) := dk_42 (dk_at dksX14_minute_1 21 rfl rfl)
theorem dX14_minute_44 : decode cX14_minute 44 = .ok (.getfield 108, 3) := dk_180 0 108 (dk_at dksX14_minute_2 0 rfl rfl)
theorem dX14_minute_47 : decode cX14_minute 47 = .ok (.iload_n 1, 1) := dk_27 (dk_at dksX14_minute_2 3 rfl rfl)
theorem dX14_minute_48 : decode cX14_minute 48 = .ok (.iconst 0, 1) := dk_3 (dk_at dksX14_minute_2 4 rfl rfl)
theorem dX14_minute_49 : decode cX14_minute 49 = .ok (.iastore, 1) := dk_79 (dk_at dksX14_minute_2 5 rfl rfl)
theorem dX14_minute_50 : decode cX14_minute 50 = .ok (.iconst 0, 1) := dk_3 (dk_at dksX14_minute_2 6 rfl rfl)
theorem dX14_minute_51 : decode cX14_minute 51 = .ok (.istore_n 3, 1) := dk_62 (dk_at dksX14_minute_2 7 rfl rfl)
theorem dX14_minute_52 : decode cX14_minute 52 = .ok (.iload_n 3, 1) := dk_29 (dk_at dksX14_minute_2 8 rfl rfl)
theorem dX14_minute_53 : decode cX14_minute 53 = .ok (.aload_n 0, 1) := dk_42 (dk_at dksX14_minute_2 9 rfl rfl)
theorem dX14_minute_54 : decode cX14_minute 54 = .ok (.invokevirtual 426, 3) := dk_182 1 170 (dk_at dksX14_minute_2 10 rfl rfl)
theorem dX14_minute_57 : decode cX14_minute 57 = .ok (.if_icmp .ge 29, 3) := dk_162 0 29 (dk_at dksX14_minute_2 13 rfl rfl)
theorem dX14_minute_60 : decode cX14_minute 60 = .ok (.aload_n 0, 1) := dk_42 (dk_at dksX14_minute_2 16 rfl rfl)
theorem dX14_minute_61 : decode cX14_minute 61 = .ok (.getfield 114, 3) := dk_180 0 114 (dk_at dksX14_minute_2 17 rfl rfl)
theorem dX14_minute_64 : decode cX14_minute 64 = .ok (.iload_n 3, 1) := dk_29 (dk_at dksX14_minute_2 20 rfl rfl)
theorem dX14_minute_65 : decode cX14_minute 65 = .ok (.aload_n 0, 1) := dk_42 (dk_at dksX14_minute_2 21 rfl rfl)
theorem dX14_minute_66 : decode cX14_minute 66 = .ok (.iload_n 3, 1) := dk_29 (dk_at dksX14_minute_2 22 rfl rfl)
theorem dX14_minute_67 : decode cX14_minute 67 = .ok (.aload_n 0, 1) := dk_42 (dk_at dksX14_minute_2 23 rfl rfl)
theorem dX14_minute_68 : decode cX14_minute 68 = .ok (.getfield 105, 3) := dk_180 0 105 (dk_at dksX14_minute_3 0 rfl rfl)
theorem dX14_minute_71 : decode cX14_minute 71 = .ok (.aload_n 0, 1) := dk_42 (dk_at dksX14_minute_3 3 rfl rfl)
theorem dX14_minute_72 : decode cX14_minute 72 = .ok (.getfield 108, 3) := dk_180 0 108 (dk_at dksX14_minute_3 4 rfl rfl)
theorem dX14_minute_75 : decode cX14_minute 75 = .ok (.iconst 0, 1) := dk_3 (dk_at dksX14_minute_3 7 rfl rfl)
theorem dX14_minute_76 : decode cX14_minute 76 = .ok (.invokevirtual 432, 3) := dk_182 1 176 (dk_at dksX14_minute_3 8 rfl rfl)
theorem dX14_minute_79 : decode cX14_minute 79 = .ok (.iastore, 1) := dk_79 (dk_at dksX14_minute_3 11 rfl rfl)
theorem dX14_minute_80 : decode cX14_minute 80 = .ok (.iinc 3 1, 3) := dk_132 3 1 (dk_at dksX14_minute_3 12 rfl rfl)
theorem dX14_minute_83 : decode cX14_minute 83 = .ok (.goto (-31), 3) := dk_167 255 225 (dk_at dksX14_minute_3 15 rfl rfl)
theorem dX14_minute_86 : decode cX14_minute 86 = .ok (.iconst 0, 1) := dk_3 (dk_at dksX14_minute_3 18 rfl rfl)
theorem dX14_minute_87 : decode cX14_minute 87 = .ok (.istore_n 3, 1) := dk_62 (dk_at dksX14_minute_3 19 rfl rfl)
theorem dX14_minute_88 : decode cX14_minute 88 = .ok (.iload_n 3, 1) := dk_29 (dk_at dksX14_minute_3 20 rfl rfl)
theorem dX14_minute_89 : decode cX14_minute 89 = .ok (.aload_n 0, 1) := dk_42 (dk_at dksX14_minute_3 21 rfl rfl)
theorem dX14_minute_90 : decode cX14_minute 90 = .ok (.invokevirtual 426, 3) := dk_182 1 170 (dk_at dksX14_minute_4 0 rfl rfl)
theorem dX14_minute_93 : decode cX14_minute 93 = .ok (.if_icmp .ge 57, 3) := dk_162 0 57 (dk_at dksX14_minute_4 3 rfl rfl)
theorem dX14_minute_96 : decode cX14_minute 96 = .ok (.aload_n 0, 1) := dk_42 (dk_at dksX14_minute_4 6 rfl rfl)
theorem dX14_minute_97 : decode cX14_minute 97 = .ok (.getfield 108, 3) := dk_180 0 108 (dk_at dksX14_minute_4 7 rfl rfl)
theorem dX14_minute_100 : decode cX14_minute 100 = .ok (.iload_n 3, 1) := dk_29 (dk_at dksX14_minute_4 10 rfl rfl)
theorem dX14_minute_101 : decode cX14_minute 101 = .ok (.iaload, 1) := dk_46 (dk_at dksX14_minute_4 11 rfl rfl)
theorem dX14_minute_102 : decode cX14_minute 102 = .ok (.ifCond .ne 6, 3) := dk_154 0 6 (dk_at dksX14_minute_4 12 rfl rfl)
theorem dX14_minute_105 : decode cX14_minute 105 = .ok (.goto 39, 3) := dk_167 0 39 (dk_at dksX14_minute_4 15 rfl rfl)
theorem dX14_minute_108 : decode cX14_minute 108 = .ok (.aload_n 0, 1) := dk_42 (dk_at dksX14_minute_4 18 rfl rfl)
theorem dX14_minute_109 : decode cX14_minute 109 = .ok (.getfield 105, 3) := dk_180 0 105 (dk_at dksX14_minute_4 19 rfl rfl)
theorem dX14_minute_112 : decode cX14_minute 112 = .ok (.iload_n 3, 1) := dk_29 (dk_at dksX14_minute_4 22 rfl rfl)
theorem dX14_minute_113 : decode cX14_minute 113 = .ok (.dup2, 1) := dk_92 (dk_at dksX14_minute_4 23 rfl rfl)
theorem dX14_minute_114 : decode cX14_minute 114 = .ok (.iaload, 1) := dk_46 (dk_at dksX14_minute_5 0 rfl rfl)
theorem dX14_minute_115 : decode cX14_minute 115 = .ok (.iconst 1, 1) := dk_4 (dk_at dksX14_minute_5 1 rfl rfl)
theorem dX14_minute_116 : decode cX14_minute 116 = .ok (.isub, 1) := dk_100 (dk_at dksX14_minute_5 2 rfl rfl)
theorem dX14_minute_117 : decode cX14_minute 117 = .ok (.iastore, 1) := dk_79 (dk_at dksX14_minute_5 3 rfl rfl)
theorem dX14_minute_118 : decode cX14_minute 118 = .ok (.aload_n 0, 1) := dk_42 (dk_at dksX14_minute_5 4 rfl rfl)
theorem dX14_minute_119 : decode cX14_minute 119 = .ok (.dup, 1) := dk_89 (dk_at dksX14_minute_5 5 rfl rfl)
theorem dX14_minute_120 : decode cX14_minute 120 = .ok (.getfield 423, 3) := dk_180 1 167 (dk_at dksX14_minute_5 6 rfl rfl)
theorem dX14_minute_123 : decode cX14_minute 123 = .ok (.iconst 1, 1) := dk_4 (dk_at dksX14_minute_5 9 rfl rfl)
theorem dX14_minute_124 : decode cX14_minute 124 = .ok (.iadd, 1) := dk_96 (dk_at dksX14_minute_5 10 rfl rfl)
theorem dX14_minute_125 : decode cX14_minute 125 = .ok (.putfield 423, 3) := dk_181 1 167 (dk_at dksX14_minute_5 11 rfl rfl)
theorem dX14_minute_128 : decode cX14_minute 128 = .ok (.aload_n 0, 1) := dk_42 (dk_at dksX14_minute_5 14 rfl rfl)
theorem dX14_minute_129 : decode cX14_minute 129 = .ok (.getfield 105, 3) := dk_180 0 105 (dk_at dksX14_minute_5 15 rfl rfl)
theorem dX14_minute_132 : decode cX14_minute 132 = .ok (.iload_n 3, 1) := dk_29 (dk_at dksX14_minute_5 18 rfl rfl)
theorem dX14_minute_133 : decode cX14_minute 133 = .ok (.iaload, 1) := dk_46 (dk_at dksX14_minute_5 19 rfl rfl)
theorem dX14_minute_134 : decode cX14_minute 134 = .ok (.ifCond .ne 10, 3) := dk_154 0 10 (dk_at dksX14_minute_5 20 rfl rfl)
theorem dX14_minute_137 : decode cX14_minute 137 = .ok (.aload_n 0, 1) := dk_42 (dk_at dksX14_minute_5 23 rfl rfl)
theorem dX14_minute_138 : decode cX14_minute 138 = .ok (.getfield 108, 3) := dk_180 0 108 (dk_at dksX14_minute_6 0 rfl rfl)
theorem dX14_minute_141 : decode cX14_minute 141 = .ok (.iload_n 3, 1) := dk_29 (dk_at dksX14_minute_6 3 rfl rfl)
theorem dX14_minute_142 : decode cX14_minute 142 = .ok (.iconst 0, 1) := dk_3 (dk_at dksX14_minute_6 4 rfl rfl)
theorem dX14_minute_143 : decode cX14_minute 143 = .ok (.iastore, 1) := dk_79 (dk_at dksX14_minute_6 5 rfl rfl)
theorem dX14_minute_144 : decode cX14_minute 144 = .ok (.iinc 3 1, 3) := dk_132 3 1 (dk_at dksX14_minute_6 6 rfl rfl)
theorem dX14_minute_147 : decode cX14_minute 147 = .ok (.goto (-59), 3) := dk_167 255 197 (dk_at dksX14_minute_6 9 rfl rfl)
theorem dX14_minute_150 : decode cX14_minute 150 = .ok (.iconst 0, 1) := dk_3 (dk_at dksX14_minute_6 12 rfl rfl)
theorem dX14_minute_151 : decode cX14_minute 151 = .ok (.istore_n 3, 1) := dk_62 (dk_at dksX14_minute_6 13 rfl rfl)
theorem dX14_minute_152 : decode cX14_minute 152 = .ok (.iload_n 3, 1) := dk_29 (dk_at dksX14_minute_6 14 rfl rfl)
theorem dX14_minute_153 : decode cX14_minute 153 = .ok (.aload_n 0, 1) := dk_42 (dk_at dksX14_minute_6 15 rfl rfl)
theorem dX14_minute_154 : decode cX14_minute 154 = .ok (.invokevirtual 426, 3) := dk_182 1 170 (dk_at dksX14_minute_6 16 rfl rfl)
theorem dX14_minute_157 : decode cX14_minute 157 = .ok (.if_icmp .ge 35, 3) := dk_162 0 35 (dk_at dksX14_minute_6 19 rfl rfl)
theorem dX14_minute_160 : decode cX14_minute 160 = .ok (.aload_n 0, 1) := dk_42 (dk_at dksX14_minute_6 22 rfl rfl)
theorem dX14_minute_161 : decode cX14_minute 161 = .ok (.getfield 114, 3) := dk_180 0 114 (dk_at dksX14_minute_7 0 rfl rfl)
theorem dX14_minute_164 : decode cX14_minute 164 = .ok (.iload_n 3, 1) := dk_29 (dk_at dksX14_minute_7 3 rfl rfl)
theorem dX14_minute_165 : decode cX14_minute 165 = .ok (.iaload, 1) := dk_46 (dk_at dksX14_minute_7 4 rfl rfl)
theorem dX14_minute_166 : decode cX14_minute 166 = .ok (.iconst 5, 1) := dk_8 (dk_at dksX14_minute_7 5 rfl rfl)
theorem dX14_minute_167 : decode cX14_minute 167 = .ok (.aload_n 0, 1) := dk_42 (dk_at dksX14_minute_7 6 rfl rfl)
theorem dX14_minute_168 : decode cX14_minute 168 = .ok (.getfield 111, 3) := dk_180 0 111 (dk_at dksX14_minute_7 7 rfl rfl)
theorem dX14_minute_171 : decode cX14_minute 171 = .ok (.iload_n 3, 1) := dk_29 (dk_at dksX14_minute_7 10 rfl rfl)
theorem dX14_minute_172 : decode cX14_minute 172 = .ok (.iaload, 1) := dk_46 (dk_at dksX14_minute_7 11 rfl rfl)
theorem dX14_minute_173 : decode cX14_minute 173 = .ok (.iconst 2, 1) := dk_5 (dk_at dksX14_minute_7 12 rfl rfl)
theorem dX14_minute_174 : decode cX14_minute 174 = .ok (.idiv, 1) := dk_108 (dk_at dksX14_minute_7 13 rfl rfl)
theorem dX14_minute_175 : decode cX14_minute 175 = .ok (.iadd, 1) := dk_96 (dk_at dksX14_minute_7 14 rfl rfl)
theorem dX14_minute_176 : decode cX14_minute 176 = .ok (.if_icmp .lt 10, 3) := dk_161 0 10 (dk_at dksX14_minute_7 15 rfl rfl)
theorem dX14_minute_179 : decode cX14_minute 179 = .ok (.aload_n 0, 1) := dk_42 (dk_at dksX14_minute_7 18 rfl rfl)
theorem dX14_minute_180 : decode cX14_minute 180 = .ok (.getfield 108, 3) := dk_180 0 108 (dk_at dksX14_minute_7 19 rfl rfl)
theorem dX14_minute_183 : decode cX14_minute 183 = .ok (.iload_n 3, 1) := dk_29 (dk_at dksX14_minute_7 22 rfl rfl)
theorem dX14_minute_184 : decode cX14_minute 184 = .ok (.iconst 1, 1) := dk_4 (dk_at dksX14_minute_7 23 rfl rfl)
theorem dX14_minute_185 : decode cX14_minute 185 = .ok (.iastore, 1) := dk_79 (dk_at dksX14_minute_8 0 rfl rfl)
theorem dX14_minute_186 : decode cX14_minute 186 = .ok (.iinc 3 1, 3) := dk_132 3 1 (dk_at dksX14_minute_8 1 rfl rfl)
theorem dX14_minute_189 : decode cX14_minute 189 = .ok (.goto (-37), 3) := dk_167 255 219 (dk_at dksX14_minute_8 4 rfl rfl)
theorem dX14_minute_192 : decode cX14_minute 192 = .ok (.return_, 1) := dk_177 (dk_at dksX14_minute_8 7 rfl rfl)
abbrev cX14_fireAt : ByteArray := prog_23_method_84_code
def yX14_fireAt : MethodName := ⟨RX14, "fireAt", "(III)I"⟩
def dkwX14_fireAt_2 : List UInt8 := [180, 0, 123, 6, 42, 180, 1, 205, 28, 104, 27, 96, 104, 29, 96, 46, 172]
abbrev dktX14_fireAt_2 : List UInt8 := dkwX14_fireAt_2 ++ []
def dkwX14_fireAt_1 : List UInt8 := [28, 155, 0, 20, 28, 42, 180, 1, 208, 162, 0, 12, 29, 3, 5, 184, 0, 219, 154, 0, 5, 2, 172, 42]
abbrev dktX14_fireAt_1 : List UInt8 := dkwX14_fireAt_1 ++ dktX14_fireAt_2
def dkwX14_fireAt_0 : List UInt8 := [42, 3, 181, 0, 148, 42, 180, 1, 202, 153, 0, 36, 27, 155, 0, 32, 27, 42, 180, 1, 205, 162, 0, 24]
abbrev dktX14_fireAt_0 : List UInt8 := dkwX14_fireAt_0 ++ dktX14_fireAt_1
theorem dksX14_fireAt_0 : cX14_fireAt.data.toList.drop 0 = dktX14_fireAt_0 := by decide +kernel
theorem dksX14_fireAt_1 : cX14_fireAt.data.toList.drop 24 = dktX14_fireAt_1 := dk_seg dksX14_fireAt_0 24 rfl rfl
theorem dksX14_fireAt_2 : cX14_fireAt.data.toList.drop 48 = dktX14_fireAt_2 := dk_seg dksX14_fireAt_1 24 rfl rfl
theorem dX14_fireAt_0 : decode cX14_fireAt 0 = .ok (.aload_n 0, 1) := dk_42 (dk_at dksX14_fireAt_0 0 rfl rfl)
theorem dX14_fireAt_1 : decode cX14_fireAt 1 = .ok (.iconst 0, 1) := dk_3 (dk_at dksX14_fireAt_0 1 rfl rfl)
theorem dX14_fireAt_2 : decode cX14_fireAt 2 = .ok (.putfield 148, 3) := dk_181 0 148 (dk_at dksX14_fireAt_0 2 rfl rfl)
theorem dX14_fireAt_5 : decode cX14_fireAt 5 = .ok (.aload_n 0, 1) := dk_42 (dk_at dksX14_fireAt_0 5 rfl rfl)
theorem dX14_fireAt_6 : decode cX14_fireAt 6 = .ok (.getfield 458, 3) := dk_180 1 202 (dk_at dksX14_fireAt_0 6 rfl rfl)
theorem dX14_fireAt_9 : decode cX14_fireAt 9 = .ok (.ifCond .eq 36, 3) := dk_153 0 36 (dk_at dksX14_fireAt_0 9 rfl rfl)
theorem dX14_fireAt_12 : decode cX14_fireAt 12 = .ok (.iload_n 1, 1) := dk_27 (dk_at dksX14_fireAt_0 12 rfl rfl)
theorem dX14_fireAt_13 : decode cX14_fireAt 13 = .ok (.ifCond .lt 32, 3) := dk_155 0 32 (dk_at dksX14_fireAt_0 13 rfl rfl)
theorem dX14_fireAt_16 : decode cX14_fireAt 16 = .ok (.iload_n 1, 1) := dk_27 (dk_at dksX14_fireAt_0 16 rfl rfl)
theorem dX14_fireAt_17 : decode cX14_fireAt 17 = .ok (.aload_n 0, 1) := dk_42 (dk_at dksX14_fireAt_0 17 rfl rfl)
theorem dX14_fireAt_18 : decode cX14_fireAt 18 = .ok (.getfield 461, 3) := dk_180 1 205 (dk_at dksX14_fireAt_0 18 rfl rfl)
theorem dX14_fireAt_21 : decode cX14_fireAt 21 = .ok (.if_icmp .ge 24, 3) := dk_162 0 24 (dk_at dksX14_fireAt_0 21 rfl rfl)
theorem dX14_fireAt_24 : decode cX14_fireAt 24 = .ok (.iload_n 2, 1) := dk_28 (dk_at dksX14_fireAt_1 0 rfl rfl)
theorem dX14_fireAt_25 : decode cX14_fireAt 25 = .ok (.ifCond .lt 20, 3) := dk_155 0 20 (dk_at dksX14_fireAt_1 1 rfl rfl)
theorem dX14_fireAt_28 : decode cX14_fireAt 28 = .ok (.iload_n 2, 1) := dk_28 (dk_at dksX14_fireAt_1 4 rfl rfl)
theorem dX14_fireAt_29 : decode cX14_fireAt 29 = .ok (.aload_n 0, 1) := dk_42 (dk_at dksX14_fireAt_1 5 rfl rfl)
theorem dX14_fireAt_30 : decode cX14_fireAt 30 = .ok (.getfield 464, 3) := dk_180 1 208 (dk_at dksX14_fireAt_1 6 rfl rfl)
theorem dX14_fireAt_33 : decode cX14_fireAt 33 = .ok (.if_icmp .ge 12, 3) := dk_162 0 12 (dk_at dksX14_fireAt_1 9 rfl rfl)
theorem dX14_fireAt_36 : decode cX14_fireAt 36 = .ok (.iload_n 3, 1) := dk_29 (dk_at dksX14_fireAt_1 12 rfl rfl)
theorem dX14_fireAt_37 : decode cX14_fireAt 37 = .ok (.iconst 0, 1) := dk_3 (dk_at dksX14_fireAt_1 13 rfl rfl)
theorem dX14_fireAt_38 : decode cX14_fireAt 38 = .ok (.iconst 2, 1) := dk_5 (dk_at dksX14_fireAt_1 14 rfl rfl)
theorem dX14_fireAt_39 : decode cX14_fireAt 39 = .ok (.invokestatic 219, 3) := dk_184 0 219 (dk_at dksX14_fireAt_1 15 rfl rfl)
theorem dX14_fireAt_42 : decode cX14_fireAt 42 = .ok (.ifCond .ne 5, 3) := dk_154 0 5 (dk_at dksX14_fireAt_1 18 rfl rfl)
theorem dX14_fireAt_45 : decode cX14_fireAt 45 = .ok (.iconst (-1), 1) := dk_2 (dk_at dksX14_fireAt_1 21 rfl rfl)
theorem dX14_fireAt_46 : decode cX14_fireAt 46 = .ok (.ireturn, 1) := dk_172 (dk_at dksX14_fireAt_1 22 rfl rfl)
theorem dX14_fireAt_47 : decode cX14_fireAt 47 = .ok (.aload_n 0, 1) := dk_42 (dk_at dksX14_fireAt_1 23 rfl rfl)
theorem dX14_fireAt_48 : decode cX14_fireAt 48 = .ok (.getfield 123, 3) := dk_180 0 123 (dk_at dksX14_fireAt_2 0 rfl rfl)
theorem dX14_fireAt_51 : decode cX14_fireAt 51 = .ok (.iconst 3, 1) := dk_6 (dk_at dksX14_fireAt_2 3 rfl rfl)
theorem dX14_fireAt_52 : decode cX14_fireAt 52 = .ok (.aload_n 0, 1) := dk_42 (dk_at dksX14_fireAt_2 4 rfl rfl)
theorem dX14_fireAt_53 : decode cX14_fireAt 53 = .ok (.getfield 461, 3) := dk_180 1 205 (dk_at dksX14_fireAt_2 5 rfl rfl)
theorem dX14_fireAt_56 : decode cX14_fireAt 56 = .ok (.iload_n 2, 1) := dk_28 (dk_at dksX14_fireAt_2 8 rfl rfl)
theorem dX14_fireAt_57 : decode cX14_fireAt 57 = .ok (.imul, 1) := dk_104 (dk_at dksX14_fireAt_2 9 rfl rfl)
theorem dX14_fireAt_58 : decode cX14_fireAt 58 = .ok (.iload_n 1, 1) := dk_27 (dk_at dksX14_fireAt_2 10 rfl rfl)
theorem dX14_fireAt_59 : decode cX14_fireAt 59 = .ok (.iadd, 1) := dk_96 (dk_at dksX14_fireAt_2 11 rfl rfl)
theorem dX14_fireAt_60 : decode cX14_fireAt 60 = .ok (.imul, 1) := dk_104 (dk_at dksX14_fireAt_2 12 rfl rfl)
theorem dX14_fireAt_61 : decode cX14_fireAt 61 = .ok (.iload_n 3, 1) := dk_29 (dk_at dksX14_fireAt_2 13 rfl rfl)
theorem dX14_fireAt_62 : decode cX14_fireAt 62 = .ok (.iadd, 1) := dk_96 (dk_at dksX14_fireAt_2 14 rfl rfl)
theorem dX14_fireAt_63 : decode cX14_fireAt 63 = .ok (.iaload, 1) := dk_46 (dk_at dksX14_fireAt_2 15 rfl rfl)
theorem dX14_fireAt_64 : decode cX14_fireAt 64 = .ok (.ireturn, 1) := dk_172 (dk_at dksX14_fireAt_2 16 rfl rfl)
abbrev cX14_out : ByteArray := prog_23_method_85_code
def yX14_out : MethodName := ⟨RX14, "out", "()I"⟩
def dkwX14_out_0 : List UInt8 := [42, 3, 181, 0, 148, 42, 180, 0, 126, 172]
abbrev dktX14_out_0 : List UInt8 := dkwX14_out_0 ++ []
theorem dksX14_out_0 : cX14_out.data.toList.drop 0 = dktX14_out_0 := by decide +kernel
theorem dX14_out_0 : decode cX14_out 0 = .ok (.aload_n 0, 1) := dk_42 (dk_at dksX14_out_0 0 rfl rfl)
theorem dX14_out_1 : decode cX14_out 1 = .ok (.iconst 0, 1) := dk_3 (dk_at dksX14_out_0 1 rfl rfl)
theorem dX14_out_2 : decode cX14_out 2 = .ok (.putfield 148, 3) := dk_181 0 148 (dk_at dksX14_out_0 2 rfl rfl)
theorem dX14_out_5 : decode cX14_out 5 = .ok (.aload_n 0, 1) := dk_42 (dk_at dksX14_out_0 5 rfl rfl)
theorem dX14_out_6 : decode cX14_out 6 = .ok (.getfield 126, 3) := dk_180 0 126 (dk_at dksX14_out_0 6 rfl rfl)
theorem dX14_out_9 : decode cX14_out 9 = .ok (.ireturn, 1) := dk_172 (dk_at dksX14_out_0 9 rfl rfl)
abbrev cX14_aims : ByteArray := prog_23_method_89_code
def yX14_aims : MethodName := ⟨RX14, "aims", "(II)I"⟩
def dkwX14_aims_3 : List UInt8 := [180, 0, 139, 29, 42, 180, 0, 136, 29, 46, 79, 132, 3, 1, 167, 255, 236, 42, 180, 1, 214, 172]
abbrev dktX14_aims_3 : List UInt8 := dkwX14_aims_3 ++ []
def dkwX14_aims_2 : List UInt8 := [42, 2, 181, 1, 214, 42, 3, 28, 182, 1, 220, 42, 27, 181, 1, 226, 3, 62, 29, 27, 162, 0, 21, 42]
abbrev dktX14_aims_2 : List UInt8 := dkwX14_aims_2 ++ dktX14_aims_3
def dkwX14_aims_1 : List UInt8 := [184, 0, 219, 153, 0, 10, 42, 182, 1, 170, 154, 0, 5, 2, 172, 42, 182, 1, 195, 42, 27, 181, 1, 211]
abbrev dktX14_aims_1 : List UInt8 := dkwX14_aims_1 ++ dktX14_aims_2
def dkwX14_aims_0 : List UInt8 := [42, 3, 181, 0, 148, 42, 182, 0, 232, 27, 4, 6, 184, 0, 219, 153, 0, 21, 28, 3, 17, 3, 231]
abbrev dktX14_aims_0 : List UInt8 := dkwX14_aims_0 ++ dktX14_aims_1
theorem dksX14_aims_0 : cX14_aims.data.toList.drop 0 = dktX14_aims_0 := by decide +kernel
theorem dksX14_aims_1 : cX14_aims.data.toList.drop 23 = dktX14_aims_1 := dk_seg dksX14_aims_0 23 rfl rfl
theorem dksX14_aims_2 : cX14_aims.data.toList.drop 47 = dktX14_aims_2 := dk_seg dksX14_aims_1 24 rfl rfl
theorem dksX14_aims_3 : cX14_aims.data.toList.drop 71 = dktX14_aims_3 := dk_seg dksX14_aims_2 24 rfl rfl
theorem dX14_aims_0 : decode cX14_aims 0 = .ok (.aload_n 0, 1) := dk_42 (dk_at dksX14_aims_0 0 rfl rfl)
theorem dX14_aims_1 : decode cX14_aims 1 = .ok (.iconst 0, 1) := dk_3 (dk_at dksX14_aims_0 1 rfl rfl)
theorem dX14_aims_2 : decode cX14_aims 2 = .ok (.putfield 148, 3) := dk_181 0 148 (dk_at dksX14_aims_0 2 rfl rfl)
theorem dX14_aims_5 : decode cX14_aims 5 = .ok (.aload_n 0, 1) := dk_42 (dk_at dksX14_aims_0 5 rfl rfl)
theorem dX14_aims_6 : decode cX14_aims 6 = .ok (.invokevirtual 232, 3) := dk_182 0 232 (dk_at dksX14_aims_0 6 rfl rfl)
theorem dX14_aims_9 : decode cX14_aims 9 = .ok (.iload_n 1, 1) := dk_27 (dk_at dksX14_aims_0 9 rfl rfl)
theorem dX14_aims_10 : decode cX14_aims 10 = .ok (.iconst 1, 1) := dk_4 (dk_at dksX14_aims_0 10 rfl rfl)
theorem dX14_aims_11 : decode cX14_aims 11 = .ok (.iconst 3, 1) := dk_6 (dk_at dksX14_aims_0 11 rfl rfl)
theorem dX14_aims_12 : decode cX14_aims 12 = .ok (.invokestatic 219, 3) := dk_184 0 219 (dk_at dksX14_aims_0 12 rfl rfl)
theorem dX14_aims_15 : decode cX14_aims 15 = .ok (.ifCond .eq 21, 3) := dk_153 0 21 (dk_at dksX14_aims_0 15 rfl rfl)
theorem dX14_aims_18 : decode cX14_aims 18 = .ok (.iload_n 2, 1) := dk_28 (dk_at dksX14_aims_0 18 rfl rfl)
theorem dX14_aims_19 : decode cX14_aims 19 = .ok (.iconst 0, 1) := dk_3 (dk_at dksX14_aims_0 19 rfl rfl)
theorem dX14_aims_20 : decode cX14_aims 20 = .ok (.sipush 999, 3) := dk_17 3 231 (dk_at dksX14_aims_0 20 rfl rfl)
theorem dX14_aims_23 : decode cX14_aims 23 = .ok (.invokestatic 219, 3) := dk_184 0 219 (dk_at dksX14_aims_1 0 rfl rfl)
theorem dX14_aims_26 : decode cX14_aims 26 = .ok (.ifCond .eq 10, 3) := dk_153 0 10 (dk_at dksX14_aims_1 3 rfl rfl)
theorem dX14_aims_29 : decode cX14_aims 29 = .ok (.aload_n 0, 1) := dk_42 (dk_at dksX14_aims_1 6 rfl rfl)
theorem dX14_aims_30 : decode cX14_aims 30 = .ok (.invokevirtual 426, 3) := dk_182 1 170 (dk_at dksX14_aims_1 7 rfl rfl)
theorem dX14_aims_33 : decode cX14_aims 33 = .ok (.ifCond .ne 5, 3) := dk_154 0 5 (dk_at dksX14_aims_1 10 rfl rfl)
theorem dX14_aims_36 : decode cX14_aims 36 = .ok (.iconst (-1), 1) := dk_2 (dk_at dksX14_aims_1 13 rfl rfl)
theorem dX14_aims_37 : decode cX14_aims 37 = .ok (.ireturn, 1) := dk_172 (dk_at dksX14_aims_1 14 rfl rfl)
theorem dX14_aims_38 : decode cX14_aims 38 = .ok (.aload_n 0, 1) := dk_42 (dk_at dksX14_aims_1 15 rfl rfl)
theorem dX14_aims_39 : decode cX14_aims 39 = .ok (.invokevirtual 451, 3) := dk_182 1 195 (dk_at dksX14_aims_1 16 rfl rfl)
theorem dX14_aims_42 : decode cX14_aims 42 = .ok (.aload_n 0, 1) := dk_42 (dk_at dksX14_aims_1 19 rfl rfl)
theorem dX14_aims_43 : decode cX14_aims 43 = .ok (.iload_n 1, 1) := dk_27 (dk_at dksX14_aims_1 20 rfl rfl)
theorem dX14_aims_44 : decode cX14_aims 44 = .ok (.putfield 467, 3) := dk_181 1 211 (dk_at dksX14_aims_1 21 rfl rfl)
theorem dX14_aims_47 : decode cX14_aims 47 = .ok (.aload_n 0, 1) := dk_42 (dk_at dksX14_aims_2 0 rfl rfl)
theorem dX14_aims_48 : decode cX14_aims 48 = .ok (.iconst (-1), 1) := dk_2 (dk_at dksX14_aims_2 1 rfl rfl)
theorem dX14_aims_49 : decode cX14_aims 49 = .ok (.putfield 470, 3) := dk_181 1 214 (dk_at dksX14_aims_2 2 rfl rfl)
theorem dX14_aims_52 : decode cX14_aims 52 = .ok (.aload_n 0, 1) := dk_42 (dk_at dksX14_aims_2 5 rfl rfl)
theorem dX14_aims_53 : decode cX14_aims 53 = .ok (.iconst 0, 1) := dk_3 (dk_at dksX14_aims_2 6 rfl rfl)
theorem dX14_aims_54 : decode cX14_aims 54 = .ok (.iload_n 2, 1) := dk_28 (dk_at dksX14_aims_2 7 rfl rfl)
theorem dX14_aims_55 : decode cX14_aims 55 = .ok (.invokevirtual 476, 3) := dk_182 1 220 (dk_at dksX14_aims_2 8 rfl rfl)
theorem dX14_aims_58 : decode cX14_aims 58 = .ok (.aload_n 0, 1) := dk_42 (dk_at dksX14_aims_2 11 rfl rfl)
theorem dX14_aims_59 : decode cX14_aims 59 = .ok (.iload_n 1, 1) := dk_27 (dk_at dksX14_aims_2 12 rfl rfl)
theorem dX14_aims_60 : decode cX14_aims 60 = .ok (.putfield 482, 3) := dk_181 1 226 (dk_at dksX14_aims_2 13 rfl rfl)
theorem dX14_aims_63 : decode cX14_aims 63 = .ok (.iconst 0, 1) := dk_3 (dk_at dksX14_aims_2 16 rfl rfl)
theorem dX14_aims_64 : decode cX14_aims 64 = .ok (.istore_n 3, 1) := dk_62 (dk_at dksX14_aims_2 17 rfl rfl)
theorem dX14_aims_65 : decode cX14_aims 65 = .ok (.iload_n 3, 1) := dk_29 (dk_at dksX14_aims_2 18 rfl rfl)
theorem dX14_aims_66 : decode cX14_aims 66 = .ok (.iload_n 1, 1) := dk_27 (dk_at dksX14_aims_2 19 rfl rfl)
theorem dX14_aims_67 : decode cX14_aims 67 = .ok (.if_icmp .ge 21, 3) := dk_162 0 21 (dk_at dksX14_aims_2 20 rfl rfl)
theorem dX14_aims_70 : decode cX14_aims 70 = .ok (.aload_n 0, 1) := dk_42 (dk_at dksX14_aims_2 23 rfl rfl)
theorem dX14_aims_71 : decode cX14_aims 71 = .ok (.getfield 139, 3) := dk_180 0 139 (dk_at dksX14_aims_3 0 rfl rfl)
theorem dX14_aims_74 : decode cX14_aims 74 = .ok (.iload_n 3, 1) := dk_29 (dk_at dksX14_aims_3 3 rfl rfl)
theorem dX14_aims_75 : decode cX14_aims 75 = .ok (.aload_n 0, 1) := dk_42 (dk_at dksX14_aims_3 4 rfl rfl)
theorem dX14_aims_76 : decode cX14_aims 76 = .ok (.getfield 136, 3) := dk_180 0 136 (dk_at dksX14_aims_3 5 rfl rfl)
theorem dX14_aims_79 : decode cX14_aims 79 = .ok (.iload_n 3, 1) := dk_29 (dk_at dksX14_aims_3 8 rfl rfl)
theorem dX14_aims_80 : decode cX14_aims 80 = .ok (.iaload, 1) := dk_46 (dk_at dksX14_aims_3 9 rfl rfl)
theorem dX14_aims_81 : decode cX14_aims 81 = .ok (.iastore, 1) := dk_79 (dk_at dksX14_aims_3 10 rfl rfl)
theorem dX14_aims_82 : decode cX14_aims 82 = .ok (.iinc 3 1, 3) := dk_132 3 1 (dk_at dksX14_aims_3 11 rfl rfl)
theorem dX14_aims_85 : decode cX14_aims 85 = .ok (.goto (-20), 3) := dk_167 255 236 (dk_at dksX14_aims_3 14 rfl rfl)
theorem dX14_aims_88 : decode cX14_aims 88 = .ok (.aload_n 0, 1) := dk_42 (dk_at dksX14_aims_3 17 rfl rfl)
theorem dX14_aims_89 : decode cX14_aims 89 = .ok (.getfield 470, 3) := dk_180 1 214 (dk_at dksX14_aims_3 18 rfl rfl)
theorem dX14_aims_92 : decode cX14_aims 92 = .ok (.ireturn, 1) := dk_172 (dk_at dksX14_aims_3 21 rfl rfl)
abbrev cX14_tryAims : ByteArray := prog_23_method_88_code
def yX14_tryAims : MethodName := ⟨RX14, "tryAims", "(II)V"⟩
def dkwX14_tryAims_9 : List UInt8 := [182, 1, 189, 42, 27, 4, 96, 28, 182, 1, 220, 42, 27, 182, 1, 223, 42, 29, 181, 1, 167, 177]
abbrev dktX14_tryAims_9 : List UInt8 := dkwX14_tryAims_9 ++ []
def dkwX14_tryAims_8 : List UInt8 := [182, 1, 223, 42, 29, 181, 1, 167, 132, 5, 1, 167, 255, 159, 42, 180, 0, 133, 27, 3, 79, 42, 2, 3]
abbrev dktX14_tryAims_8 : List UInt8 := dkwX14_tryAims_8 ++ dktX14_tryAims_9
def dkwX14_tryAims_7 : List UInt8 := [182, 1, 42, 112, 96, 79, 42, 21, 5, 28, 182, 1, 189, 42, 27, 4, 96, 28, 182, 1, 220, 42, 27]
abbrev dktX14_tryAims_7 : List UInt8 := dkwX14_tryAims_7 ++ dktX14_tryAims_8
def dkwX14_tryAims_6 : List UInt8 := [132, 4, 1, 42, 180, 0, 133, 27, 16, 100, 16, 10, 21, 5, 42, 182, 1, 42, 108, 104, 96, 21, 5, 42]
abbrev dktX14_tryAims_6 : List UInt8 := dkwX14_tryAims_6 ++ dktX14_tryAims_7
def dkwX14_tryAims_5 : List UInt8 := [180, 0, 130, 17, 0, 192, 27, 104, 6, 21, 5, 104, 96, 4, 96, 46, 154, 0, 6, 167, 0, 58]
abbrev dktX14_tryAims_5 : List UInt8 := dkwX14_tryAims_5 ++ dktX14_tryAims_6
def dkwX14_tryAims_4 : List UInt8 := [3, 54, 4, 3, 54, 5, 21, 5, 42, 182, 1, 170, 162, 0, 94, 21, 4, 16, 8, 162, 0, 87, 42]
abbrev dktX14_tryAims_4 : List UInt8 := dkwX14_tryAims_4 ++ dktX14_tryAims_5
def dkwX14_tryAims_3 : List UInt8 := [42, 180, 0, 133, 29, 46, 79, 132, 3, 1, 167, 255, 236, 177, 42, 27, 182, 1, 217, 42, 180, 1, 167, 62]
abbrev dktX14_tryAims_3 : List UInt8 := dkwX14_tryAims_3 ++ dktX14_tryAims_4
def dkwX14_tryAims_2 : List UInt8 := [161, 0, 4, 177, 42, 42, 180, 1, 167, 181, 1, 214, 3, 62, 29, 27, 162, 0, 21, 42, 180, 0, 136, 29]
abbrev dktX14_tryAims_2 : List UInt8 := dkwX14_tryAims_2 ++ dktX14_tryAims_3
def dkwX14_tryAims_1 : List UInt8 := [132, 3, 1, 167, 255, 241, 42, 180, 1, 214, 2, 159, 0, 15, 42, 180, 1, 167, 42, 180, 1, 214]
abbrev dktX14_tryAims_1 : List UInt8 := dkwX14_tryAims_1 ++ dktX14_tryAims_2
def dkwX14_tryAims_0 : List UInt8 := [27, 42, 180, 1, 211, 160, 0, 77, 27, 62, 29, 16, 20, 162, 0, 15, 42, 2, 3, 182, 1, 189]
abbrev dktX14_tryAims_0 : List UInt8 := dkwX14_tryAims_0 ++ dktX14_tryAims_1
theorem dksX14_tryAims_0 : cX14_tryAims.data.toList.drop 0 = dktX14_tryAims_0 := by decide +kernel
theorem dksX14_tryAims_1 : cX14_tryAims.data.toList.drop 22 = dktX14_tryAims_1 := dk_seg dksX14_tryAims_0 22 rfl rfl
theorem dksX14_tryAims_2 : cX14_tryAims.data.toList.drop 44 = dktX14_tryAims_2 := dk_seg dksX14_tryAims_1 22 rfl rfl
theorem dksX14_tryAims_3 : cX14_tryAims.data.toList.drop 68 = dktX14_tryAims_3 := dk_seg dksX14_tryAims_2 24 rfl rfl
theorem dksX14_tryAims_4 : cX14_tryAims.data.toList.drop 92 = dktX14_tryAims_4 := dk_seg dksX14_tryAims_3 24 rfl rfl
theorem dksX14_tryAims_5 : cX14_tryAims.data.toList.drop 115 = dktX14_tryAims_5 := dk_seg dksX14_tryAims_4 23 rfl rfl
theorem dksX14_tryAims_6 : cX14_tryAims.data.toList.drop 137 = dktX14_tryAims_6 := dk_seg dksX14_tryAims_5 22 rfl rfl
theorem dksX14_tryAims_7 : cX14_tryAims.data.toList.drop 161 = dktX14_tryAims_7 := dk_seg dksX14_tryAims_6 24 rfl rfl
theorem dksX14_tryAims_8 : cX14_tryAims.data.toList.drop 184 = dktX14_tryAims_8 := dk_seg dksX14_tryAims_7 23 rfl rfl
theorem dksX14_tryAims_9 : cX14_tryAims.data.toList.drop 208 = dktX14_tryAims_9 := dk_seg dksX14_tryAims_8 24 rfl rfl
theorem dX14_tryAims_0 : decode cX14_tryAims 0 = .ok (.iload_n 1, 1) := dk_27 (dk_at dksX14_tryAims_0 0 rfl rfl)
theorem dX14_tryAims_1 : decode cX14_tryAims 1 = .ok (.aload_n 0, 1) := dk_42 (dk_at dksX14_tryAims_0 1 rfl rfl)
theorem dX14_tryAims_2 : decode cX14_tryAims 2 = .ok (.getfield 467, 3) := dk_180 1 211 (dk_at dksX14_tryAims_0 2 rfl rfl)
theorem dX14_tryAims_5 : decode cX14_tryAims 5 = .ok (.if_icmp .ne 77, 3) := dk_160 0 77 (dk_at dksX14_tryAims_0 5 rfl rfl)
theorem dX14_tryAims_8 : decode cX14_tryAims 8 = .ok (.iload_n 1, 1) := dk_27 (dk_at dksX14_tryAims_0 8 rfl rfl)
theorem dX14_tryAims_9 : decode cX14_tryAims 9 = .ok (.istore_n 3, 1) := dk_62 (dk_at dksX14_tryAims_0 9 rfl rfl)
theorem dX14_tryAims_10 : decode cX14_tryAims 10 = .ok (.iload_n 3, 1) := dk_29 (dk_at dksX14_tryAims_0 10 rfl rfl)
theorem dX14_tryAims_11 : decode cX14_tryAims 11 = .ok (.bipush 20, 2) := dk_16 20 (dk_at dksX14_tryAims_0 11 rfl rfl)
theorem dX14_tryAims_13 : decode cX14_tryAims 13 = .ok (.if_icmp .ge 15, 3) := dk_162 0 15 (dk_at dksX14_tryAims_0 13 rfl rfl)
theorem dX14_tryAims_16 : decode cX14_tryAims 16 = .ok (.aload_n 0, 1) := dk_42 (dk_at dksX14_tryAims_0 16 rfl rfl)
theorem dX14_tryAims_17 : decode cX14_tryAims 17 = .ok (.iconst (-1), 1) := dk_2 (dk_at dksX14_tryAims_0 17 rfl rfl)
theorem dX14_tryAims_18 : decode cX14_tryAims 18 = .ok (.iconst 0, 1) := dk_3 (dk_at dksX14_tryAims_0 18 rfl rfl)
theorem dX14_tryAims_19 : decode cX14_tryAims 19 = .ok (.invokevirtual 445, 3) := dk_182 1 189 (dk_at dksX14_tryAims_0 19 rfl rfl)
theorem dX14_tryAims_22 : decode cX14_tryAims 22 = .ok (.iinc 3 1, 3) := dk_132 3 1 (dk_at dksX14_tryAims_1 0 rfl rfl)
theorem dX14_tryAims_25 : decode cX14_tryAims 25 = .ok (.goto (-15), 3) := dk_167 255 241 (dk_at dksX14_tryAims_1 3 rfl rfl)
theorem dX14_tryAims_28 : decode cX14_tryAims 28 = .ok (.aload_n 0, 1) := dk_42 (dk_at dksX14_tryAims_1 6 rfl rfl)
theorem dX14_tryAims_29 : decode cX14_tryAims 29 = .ok (.getfield 470, 3) := dk_180 1 214 (dk_at dksX14_tryAims_1 7 rfl rfl)
theorem dX14_tryAims_32 : decode cX14_tryAims 32 = .ok (.iconst (-1), 1) := dk_2 (dk_at dksX14_tryAims_1 10 rfl rfl)
theorem dX14_tryAims_33 : decode cX14_tryAims 33 = .ok (.if_icmp .eq 15, 3) := dk_159 0 15 (dk_at dksX14_tryAims_1 11 rfl rfl)
theorem dX14_tryAims_36 : decode cX14_tryAims 36 = .ok (.aload_n 0, 1) := dk_42 (dk_at dksX14_tryAims_1 14 rfl rfl)
theorem dX14_tryAims_37 : decode cX14_tryAims 37 = .ok (.getfield 423, 3) := dk_180 1 167 (dk_at dksX14_tryAims_1 15 rfl rfl)
theorem dX14_tryAims_40 : decode cX14_tryAims 40 = .ok (.aload_n 0, 1) := dk_42 (dk_at dksX14_tryAims_1 18 rfl rfl)
theorem dX14_tryAims_41 : decode cX14_tryAims 41 = .ok (.getfield 470, 3) := dk_180 1 214 (dk_at dksX14_tryAims_1 19 rfl rfl)
theorem dX14_tryAims_44 : decode cX14_tryAims 44 = .ok (.if_icmp .lt 4, 3) := dk_161 0 4 (dk_at dksX14_tryAims_2 0 rfl rfl)
theorem dX14_tryAims_47 : decode cX14_tryAims 47 = .ok (.return_, 1) := dk_177 (dk_at dksX14_tryAims_2 3 rfl rfl)
theorem dX14_tryAims_48 : decode cX14_tryAims 48 = .ok (.aload_n 0, 1) := dk_42 (dk_at dksX14_tryAims_2 4 rfl rfl)
theorem dX14_tryAims_49 : decode cX14_tryAims 49 = .ok (.aload_n 0, 1) := dk_42 (dk_at dksX14_tryAims_2 5 rfl rfl)
theorem dX14_tryAims_50 : decode cX14_tryAims 50 = .ok (.getfield 423, 3) := dk_180 1 167 (dk_at dksX14_tryAims_2 6 rfl rfl)
theorem dX14_tryAims_53 : decode cX14_tryAims 53 = .ok (.putfield 470, 3) := dk_181 1 214 (dk_at dksX14_tryAims_2 9 rfl rfl)
theorem dX14_tryAims_56 : decode cX14_tryAims 56 = .ok (.iconst 0, 1) := dk_3 (dk_at dksX14_tryAims_2 12 rfl rfl)
theorem dX14_tryAims_57 : decode cX14_tryAims 57 = .ok (.istore_n 3, 1) := dk_62 (dk_at dksX14_tryAims_2 13 rfl rfl)
theorem dX14_tryAims_58 : decode cX14_tryAims 58 = .ok (.iload_n 3, 1) := dk_29 (dk_at dksX14_tryAims_2 14 rfl rfl)
theorem dX14_tryAims_59 : decode cX14_tryAims 59 = .ok (.iload_n 1, 1) := dk_27 (dk_at dksX14_tryAims_2 15 rfl rfl)
theorem dX14_tryAims_60 : decode cX14_tryAims 60 = .ok (.if_icmp .ge 21, 3) := dk_162 0 21 (dk_at dksX14_tryAims_2 16 rfl rfl)
theorem dX14_tryAims_63 : decode cX14_tryAims 63 = .ok (.aload_n 0, 1) := dk_42 (dk_at dksX14_tryAims_2 19 rfl rfl)
theorem dX14_tryAims_64 : decode cX14_tryAims 64 = .ok (.getfield 136, 3) := dk_180 0 136 (dk_at dksX14_tryAims_2 20 rfl rfl)
theorem dX14_tryAims_67 : decode cX14_tryAims 67 = .ok (.iload_n 3, 1) := dk_29 (dk_at dksX14_tryAims_2 23 rfl rfl)
theorem dX14_tryAims_68 : decode cX14_tryAims 68 = .ok (.aload_n 0, 1) := dk_42 (dk_at dksX14_tryAims_3 0 rfl rfl)
theorem dX14_tryAims_69 : decode cX14_tryAims 69 = .ok (.getfield 133, 3) := dk_180 0 133 (dk_at dksX14_tryAims_3 1 rfl rfl)
theorem dX14_tryAims_72 : decode cX14_tryAims 72 = .ok (.iload_n 3, 1) := dk_29 (dk_at dksX14_tryAims_3 4 rfl rfl)
theorem dX14_tryAims_73 : decode cX14_tryAims 73 = .ok (.iaload, 1) := dk_46 (dk_at dksX14_tryAims_3 5 rfl rfl)
theorem dX14_tryAims_74 : decode cX14_tryAims 74 = .ok (.iastore, 1) := dk_79 (dk_at dksX14_tryAims_3 6 rfl rfl)
theorem dX14_tryAims_75 : decode cX14_tryAims 75 = .ok (.iinc 3 1, 3) := dk_132 3 1 (dk_at dksX14_tryAims_3 7 rfl rfl)
theorem dX14_tryAims_78 : decode cX14_tryAims 78 = .ok (.goto (-20), 3) := dk_167 255 236 (dk_at dksX14_tryAims_3 10 rfl rfl)
theorem dX14_tryAims_81 : decode cX14_tryAims 81 = .ok (.return_, 1) := dk_177 (dk_at dksX14_tryAims_3 13 rfl rfl)
theorem dX14_tryAims_82 : decode cX14_tryAims 82 = .ok (.aload_n 0, 1) := dk_42 (dk_at dksX14_tryAims_3 14 rfl rfl)
theorem dX14_tryAims_83 : decode cX14_tryAims 83 = .ok (.iload_n 1, 1) := dk_27 (dk_at dksX14_tryAims_3 15 rfl rfl)
theorem dX14_tryAims_84 : decode cX14_tryAims 84 = .ok (.invokevirtual 473, 3) := dk_182 1 217 (dk_at dksX14_tryAims_3 16 rfl rfl)
theorem dX14_tryAims_87 : decode cX14_tryAims 87 = .ok (.aload_n 0, 1) := dk_42 (dk_at dksX14_tryAims_3 19 rfl rfl)
theorem dX14_tryAims_88 : decode cX14_tryAims 88 = .ok (.getfield 423, 3) := dk_180 1 167 (dk_at dksX14_tryAims_3 20 rfl rfl)
theorem dX14_tryAims_91 : decode cX14_tryAims 91 = .ok (.istore_n 3, 1) := dk_62 (dk_at dksX14_tryAims_3 23 rfl rfl)
theorem dX14_tryAims_92 : decode cX14_tryAims 92 = .ok (.iconst 0, 1) := dk_3 (dk_at dksX14_tryAims_4 0 rfl rfl)
theorem dX14_tryAims_93 : decode cX14_tryAims 93 = .ok (.istore 4, 2) := dk_54 4 (dk_at dksX14_tryAims_4 1 rfl rfl)
theorem dX14_tryAims_95 : decode cX14_tryAims 95 = .ok (.iconst 0, 1) := dk_3 (dk_at dksX14_tryAims_4 3 rfl rfl)
theorem dX14_tryAims_96 : decode cX14_tryAims 96 = .ok (.istore 5, 2) := dk_54 5 (dk_at dksX14_tryAims_4 4 rfl rfl)
theorem dX14_tryAims_98 : decode cX14_tryAims 98 = .ok (.iload 5, 2) := dk_21 5 (dk_at dksX14_tryAims_4 6 rfl rfl)
theorem dX14_tryAims_100 : decode cX14_tryAims 100 = .ok (.aload_n 0, 1) := dk_42 (dk_at dksX14_tryAims_4 8 rfl rfl)
theorem dX14_tryAims_101 : decode cX14_tryAims 101 = .ok (.invokevirtual 426, 3) := dk_182 1 170 (dk_at dksX14_tryAims_4 9 rfl rfl)
theorem dX14_tryAims_104 : decode cX14_tryAims 104 = .ok (.if_icmp .ge 94, 3) := dk_162 0 94 (dk_at dksX14_tryAims_4 12 rfl rfl)
theorem dX14_tryAims_107 : decode cX14_tryAims 107 = .ok (.iload 4, 2) := dk_21 4 (dk_at dksX14_tryAims_4 15 rfl rfl)
theorem dX14_tryAims_109 : decode cX14_tryAims 109 = .ok (.bipush 8, 2) := dk_16 8 (dk_at dksX14_tryAims_4 17 rfl rfl)
theorem dX14_tryAims_111 : decode cX14_tryAims 111 = .ok (.if_icmp .ge 87, 3) := dk_162 0 87 (dk_at dksX14_tryAims_4 19 rfl rfl)
theorem dX14_tryAims_114 : decode cX14_tryAims 114 = .ok (.aload_n 0, 1) := dk_42 (dk_at dksX14_tryAims_4 22 rfl rfl)
theorem dX14_tryAims_115 : decode cX14_tryAims 115 = .ok (.getfield 130, 3) := dk_180 0 130 (dk_at dksX14_tryAims_5 0 rfl rfl)
theorem dX14_tryAims_118 : decode cX14_tryAims 118 = .ok (.sipush 192, 3) := dk_17 0 192 (dk_at dksX14_tryAims_5 3 rfl rfl)
theorem dX14_tryAims_121 : decode cX14_tryAims 121 = .ok (.iload_n 1, 1) := dk_27 (dk_at dksX14_tryAims_5 6 rfl rfl)
theorem dX14_tryAims_122 : decode cX14_tryAims 122 = .ok (.imul, 1) := dk_104 (dk_at dksX14_tryAims_5 7 rfl rfl)
theorem dX14_tryAims_123 : decode cX14_tryAims 123 = .ok (.iconst 3, 1) := dk_6 (dk_at dksX14_tryAims_5 8 rfl rfl)
theorem dX14_tryAims_124 : decode cX14_tryAims 124 = .ok (.iload 5, 2) := dk_21 5 (dk_at dksX14_tryAims_5 9 rfl rfl)
theorem dX14_tryAims_126 : decode cX14_tryAims 126 = .ok (.imul, 1) := dk_104 (dk_at dksX14_tryAims_5 11 rfl rfl)
theorem dX14_tryAims_127 : decode cX14_tryAims 127 = .ok (.iadd, 1) := dk_96 (dk_at dksX14_tryAims_5 12 rfl rfl)
theorem dX14_tryAims_128 : decode cX14_tryAims 128 = .ok (.iconst 1, 1) := dk_4 (dk_at dksX14_tryAims_5 13 rfl rfl)
theorem dX14_tryAims_129 : decode cX14_tryAims 129 = .ok (.iadd, 1) := dk_96 (dk_at dksX14_tryAims_5 14 rfl rfl)
theorem dX14_tryAims_130 : decode cX14_tryAims 130 = .ok (.iaload, 1) := dk_46 (dk_at dksX14_tryAims_5 15 rfl rfl)
theorem dX14_tryAims_131 : decode cX14_tryAims 131 = .ok (.ifCond .ne 6, 3) := dk_154 0 6 (dk_at dksX14_tryAims_5 16 rfl rfl)
theorem dX14_tryAims_134 : decode cX14_tryAims 134 = .ok (.goto 58, 3) := dk_167 0 58 (dk_at dksX14_tryAims_5 19 rfl rfl)
theorem dX14_tryAims_137 : decode cX14_tryAims 137 = .ok (.iinc 4 1, 3) := dk_132 4 1 (dk_at dksX14_tryAims_6 0 rfl rfl)
theorem dX14_tryAims_140 : decode cX14_tryAims 140 = .ok (.aload_n 0, 1) := dk_42 (dk_at dksX14_tryAims_6 3 rfl rfl)
theorem dX14_tryAims_141 : decode cX14_tryAims 141 = .ok (.getfield 133, 3) := dk_180 0 133 (dk_at dksX14_tryAims_6 4 rfl rfl)
theorem dX14_tryAims_144 : decode cX14_tryAims 144 = .ok (.iload_n 1, 1) := dk_27 (dk_at dksX14_tryAims_6 7 rfl rfl)
theorem dX14_tryAims_145 : decode cX14_tryAims 145 = .ok (.bipush 100, 2) := dk_16 100 (dk_at dksX14_tryAims_6 8 rfl rfl)
theorem dX14_tryAims_147 : decode cX14_tryAims 147 = .ok (.bipush 10, 2) := dk_16 10 (dk_at dksX14_tryAims_6 10 rfl rfl)
theorem dX14_tryAims_149 : decode cX14_tryAims 149 = .ok (.iload 5, 2) := dk_21 5 (dk_at dksX14_tryAims_6 12 rfl rfl)
theorem dX14_tryAims_151 : decode cX14_tryAims 151 = .ok (.aload_n 0, 1) := dk_42 (dk_at dksX14_tryAims_6 14 rfl rfl)
theorem dX14_tryAims_152 : decode cX14_tryAims 152 = .ok (.invokevirtual 298, 3) := dk_182 1 42 (dk_at dksX14_tryAims_6 15 rfl rfl)
theorem dX14_tryAims_155 : decode cX14_tryAims 155 = .ok (.idiv, 1) := dk_108 (dk_at dksX14_tryAims_6 18 rfl rfl)
theorem dX14_tryAims_156 : decode cX14_tryAims 156 = .ok (.imul, 1) := dk_104 (dk_at dksX14_tryAims_6 19 rfl rfl)
theorem dX14_tryAims_157 : decode cX14_tryAims 157 = .ok (.iadd, 1) := dk_96 (dk_at dksX14_tryAims_6 20 rfl rfl)
theorem dX14_tryAims_158 : decode cX14_tryAims 158 = .ok (.iload 5, 2) := dk_21 5 (dk_at dksX14_tryAims_6 21 rfl rfl)
theorem dX14_tryAims_160 : decode cX14_tryAims 160 = .ok (.aload_n 0, 1) := dk_42 (dk_at dksX14_tryAims_6 23 rfl rfl)
theorem dX14_tryAims_161 : decode cX14_tryAims 161 = .ok (.invokevirtual 298, 3) := dk_182 1 42 (dk_at dksX14_tryAims_7 0 rfl rfl)
theorem dX14_tryAims_164 : decode cX14_tryAims 164 = .ok (.irem, 1) := dk_112 (dk_at dksX14_tryAims_7 3 rfl rfl)
theorem dX14_tryAims_165 : decode cX14_tryAims 165 = .ok (.iadd, 1) := dk_96 (dk_at dksX14_tryAims_7 4 rfl rfl)
theorem dX14_tryAims_166 : decode cX14_tryAims 166 = .ok (.iastore, 1) := dk_79 (dk_at dksX14_tryAims_7 5 rfl rfl)
theorem dX14_tryAims_167 : decode cX14_tryAims 167 = .ok (.aload_n 0, 1) := dk_42 (dk_at dksX14_tryAims_7 6 rfl rfl)
theorem dX14_tryAims_168 : decode cX14_tryAims 168 = .ok (.iload 5, 2) := dk_21 5 (dk_at dksX14_tryAims_7 7 rfl rfl)
theorem dX14_tryAims_170 : decode cX14_tryAims 170 = .ok (.iload_n 2, 1) := dk_28 (dk_at dksX14_tryAims_7 9 rfl rfl)
theorem dX14_tryAims_171 : decode cX14_tryAims 171 = .ok (.invokevirtual 445, 3) := dk_182 1 189 (dk_at dksX14_tryAims_7 10 rfl rfl)
theorem dX14_tryAims_174 : decode cX14_tryAims 174 = .ok (.aload_n 0, 1) := dk_42 (dk_at dksX14_tryAims_7 13 rfl rfl)
theorem dX14_tryAims_175 : decode cX14_tryAims 175 = .ok (.iload_n 1, 1) := dk_27 (dk_at dksX14_tryAims_7 14 rfl rfl)
theorem dX14_tryAims_176 : decode cX14_tryAims 176 = .ok (.iconst 1, 1) := dk_4 (dk_at dksX14_tryAims_7 15 rfl rfl)
theorem dX14_tryAims_177 : decode cX14_tryAims 177 = .ok (.iadd, 1) := dk_96 (dk_at dksX14_tryAims_7 16 rfl rfl)
theorem dX14_tryAims_178 : decode cX14_tryAims 178 = .ok (.iload_n 2, 1) := dk_28 (dk_at dksX14_tryAims_7 17 rfl rfl)
theorem dX14_tryAims_179 : decode cX14_tryAims 179 = .ok (.invokevirtual 476, 3) := dk_182 1 220 (dk_at dksX14_tryAims_7 18 rfl rfl)
theorem dX14_tryAims_182 : decode cX14_tryAims 182 = .ok (.aload_n 0, 1) := dk_42 (dk_at dksX14_tryAims_7 21 rfl rfl)
theorem dX14_tryAims_183 : decode cX14_tryAims 183 = .ok (.iload_n 1, 1) := dk_27 (dk_at dksX14_tryAims_7 22 rfl rfl)
theorem dX14_tryAims_184 : decode cX14_tryAims 184 = .ok (.invokevirtual 479, 3) := dk_182 1 223 (dk_at dksX14_tryAims_8 0 rfl rfl)
theorem dX14_tryAims_187 : decode cX14_tryAims 187 = .ok (.aload_n 0, 1) := dk_42 (dk_at dksX14_tryAims_8 3 rfl rfl)
theorem dX14_tryAims_188 : decode cX14_tryAims 188 = .ok (.iload_n 3, 1) := dk_29 (dk_at dksX14_tryAims_8 4 rfl rfl)
theorem dX14_tryAims_189 : decode cX14_tryAims 189 = .ok (.putfield 423, 3) := dk_181 1 167 (dk_at dksX14_tryAims_8 5 rfl rfl)
theorem dX14_tryAims_192 : decode cX14_tryAims 192 = .ok (.iinc 5 1, 3) := dk_132 5 1 (dk_at dksX14_tryAims_8 8 rfl rfl)
theorem dX14_tryAims_195 : decode cX14_tryAims 195 = .ok (.goto (-97), 3) := dk_167 255 159 (dk_at dksX14_tryAims_8 11 rfl rfl)
theorem dX14_tryAims_198 : decode cX14_tryAims 198 = .ok (.aload_n 0, 1) := dk_42 (dk_at dksX14_tryAims_8 14 rfl rfl)
theorem dX14_tryAims_199 : decode cX14_tryAims 199 = .ok (.getfield 133, 3) := dk_180 0 133 (dk_at dksX14_tryAims_8 15 rfl rfl)
theorem dX14_tryAims_202 : decode cX14_tryAims 202 = .ok (.iload_n 1, 1) := dk_27 (dk_at dksX14_tryAims_8 18 rfl rfl)
theorem dX14_tryAims_203 : decode cX14_tryAims 203 = .ok (.iconst 0, 1) := dk_3 (dk_at dksX14_tryAims_8 19 rfl rfl)
theorem dX14_tryAims_204 : decode cX14_tryAims 204 = .ok (.iastore, 1) := dk_79 (dk_at dksX14_tryAims_8 20 rfl rfl)
theorem dX14_tryAims_205 : decode cX14_tryAims 205 = .ok (.aload_n 0, 1) := dk_42 (dk_at dksX14_tryAims_8 21 rfl rfl)
theorem dX14_tryAims_206 : decode cX14_tryAims 206 = .ok (.iconst (-1), 1) := dk_2 (dk_at dksX14_tryAims_8 22 rfl rfl)
theorem dX14_tryAims_207 : decode cX14_tryAims 207 = .ok (.iconst 0, 1) := dk_3 (dk_at dksX14_tryAims_8 23 rfl rfl)
theorem dX14_tryAims_208 : decode cX14_tryAims 208 = .ok (.invokevirtual 445, 3) := dk_182 1 189 (dk_at dksX14_tryAims_9 0 rfl rfl)
theorem dX14_tryAims_211 : decode cX14_tryAims 211 = .ok (.aload_n 0, 1) := dk_42 (dk_at dksX14_tryAims_9 3 rfl rfl)
theorem dX14_tryAims_212 : decode cX14_tryAims 212 = .ok (.iload_n 1, 1) := dk_27 (dk_at dksX14_tryAims_9 4 rfl rfl)
theorem dX14_tryAims_213 : decode cX14_tryAims 213 = .ok (.iconst 1, 1) := dk_4 (dk_at dksX14_tryAims_9 5 rfl rfl)
theorem dX14_tryAims_214 : decode cX14_tryAims 214 = .ok (.iadd, 1) := dk_96 (dk_at dksX14_tryAims_9 6 rfl rfl)
theorem dX14_tryAims_215 : decode cX14_tryAims 215 = .ok (.iload_n 2, 1) := dk_28 (dk_at dksX14_tryAims_9 7 rfl rfl)
theorem dX14_tryAims_216 : decode cX14_tryAims 216 = .ok (.invokevirtual 476, 3) := dk_182 1 220 (dk_at dksX14_tryAims_9 8 rfl rfl)
theorem dX14_tryAims_219 : decode cX14_tryAims 219 = .ok (.aload_n 0, 1) := dk_42 (dk_at dksX14_tryAims_9 11 rfl rfl)
theorem dX14_tryAims_220 : decode cX14_tryAims 220 = .ok (.iload_n 1, 1) := dk_27 (dk_at dksX14_tryAims_9 12 rfl rfl)
theorem dX14_tryAims_221 : decode cX14_tryAims 221 = .ok (.invokevirtual 479, 3) := dk_182 1 223 (dk_at dksX14_tryAims_9 13 rfl rfl)
theorem dX14_tryAims_224 : decode cX14_tryAims 224 = .ok (.aload_n 0, 1) := dk_42 (dk_at dksX14_tryAims_9 16 rfl rfl)
theorem dX14_tryAims_225 : decode cX14_tryAims 225 = .ok (.iload_n 3, 1) := dk_29 (dk_at dksX14_tryAims_9 17 rfl rfl)
theorem dX14_tryAims_226 : decode cX14_tryAims 226 = .ok (.putfield 423, 3) := dk_181 1 167 (dk_at dksX14_tryAims_9 18 rfl rfl)
theorem dX14_tryAims_229 : decode cX14_tryAims 229 = .ok (.return_, 1) := dk_177 (dk_at dksX14_tryAims_9 21 rfl rfl)
abbrev cX14_keepFire : ByteArray := prog_23_method_86_code
def yX14_keepFire : MethodName := ⟨RX14, "keepFire", "(I)V"⟩
def dkwX14_keepFire_3 : List UInt8 := [180, 0, 111, 28, 46, 79, 132, 2, 1, 167, 255, 181, 177]
abbrev dktX14_keepFire_3 : List UInt8 := dkwX14_keepFire_3 ++ []
def dkwX14_keepFire_2 : List UInt8 := [180, 0, 108, 28, 46, 79, 42, 180, 0, 130, 17, 0, 192, 27, 104, 6, 28, 104, 96, 5, 96, 42]
abbrev dktX14_keepFire_2 : List UInt8 := dkwX14_keepFire_2 ++ dktX14_keepFire_3
def dkwX14_keepFire_1 : List UInt8 := [180, 0, 105, 28, 46, 79, 42, 180, 0, 130, 17, 0, 192, 27, 104, 6, 28, 104, 96, 4, 96, 42]
abbrev dktX14_keepFire_1 : List UInt8 := dkwX14_keepFire_1 ++ dktX14_keepFire_2
def dkwX14_keepFire_0 : List UInt8 := [3, 61, 28, 42, 182, 1, 170, 162, 0, 73, 42, 180, 0, 130, 17, 0, 192, 27, 104, 6, 28, 104, 96, 42]
abbrev dktX14_keepFire_0 : List UInt8 := dkwX14_keepFire_0 ++ dktX14_keepFire_1
theorem dksX14_keepFire_0 : cX14_keepFire.data.toList.drop 0 = dktX14_keepFire_0 := by decide +kernel
theorem dksX14_keepFire_1 : cX14_keepFire.data.toList.drop 24 = dktX14_keepFire_1 := dk_seg dksX14_keepFire_0 24 rfl rfl
theorem dksX14_keepFire_2 : cX14_keepFire.data.toList.drop 46 = dktX14_keepFire_2 := dk_seg dksX14_keepFire_1 22 rfl rfl
theorem dksX14_keepFire_3 : cX14_keepFire.data.toList.drop 68 = dktX14_keepFire_3 := dk_seg dksX14_keepFire_2 22 rfl rfl
theorem dX14_keepFire_0 : decode cX14_keepFire 0 = .ok (.iconst 0, 1) := dk_3 (dk_at dksX14_keepFire_0 0 rfl rfl)
theorem dX14_keepFire_1 : decode cX14_keepFire 1 = .ok (.istore_n 2, 1) := dk_61 (dk_at dksX14_keepFire_0 1 rfl rfl)
theorem dX14_keepFire_2 : decode cX14_keepFire 2 = .ok (.iload_n 2, 1) := dk_28 (dk_at dksX14_keepFire_0 2 rfl rfl)
theorem dX14_keepFire_3 : decode cX14_keepFire 3 = .ok (.aload_n 0, 1) := dk_42 (dk_at dksX14_keepFire_0 3 rfl rfl)
theorem dX14_keepFire_4 : decode cX14_keepFire 4 = .ok (.invokevirtual 426, 3) := dk_182 1 170 (dk_at dksX14_keepFire_0 4 rfl rfl)
theorem dX14_keepFire_7 : decode cX14_keepFire 7 = .ok (.if_icmp .ge 73, 3) := dk_162 0 73 (dk_at dksX14_keepFire_0 7 rfl rfl)
theorem dX14_keepFire_10 : decode cX14_keepFire 10 = .ok (.aload_n 0, 1) := dk_42 (dk_at dksX14_keepFire_0 10 rfl rfl)
theorem dX14_keepFire_11 : decode cX14_keepFire 11 = .ok (.getfield 130, 3) := dk_180 0 130 (dk_at dksX14_keepFire_0 11 rfl rfl)
theorem dX14_keepFire_14 : decode cX14_keepFire 14 = .ok (.sipush 192, 3) := dk_17 0 192 (dk_at dksX14_keepFire_0 14 rfl rfl)
theorem dX14_keepFire_17 : decode cX14_keepFire 17 = .ok (.iload_n 1, 1) := dk_27 (dk_at dksX14_keepFire_0 17 rfl rfl)
theorem dX14_keepFire_18 : decode cX14_keepFire 18 = .ok (.imul, 1) := dk_104 (dk_at dksX14_keepFire_0 18 rfl rfl)
theorem dX14_keepFire_19 : decode cX14_keepFire 19 = .ok (.iconst 3, 1) := dk_6 (dk_at dksX14_keepFire_0 19 rfl rfl)
theorem dX14_keepFire_20 : decode cX14_keepFire 20 = .ok (.iload_n 2, 1) := dk_28 (dk_at dksX14_keepFire_0 20 rfl rfl)
theorem dX14_keepFire_21 : decode cX14_keepFire 21 = .ok (.imul, 1) := dk_104 (dk_at dksX14_keepFire_0 21 rfl rfl)
theorem dX14_keepFire_22 : decode cX14_keepFire 22 = .ok (.iadd, 1) := dk_96 (dk_at dksX14_keepFire_0 22 rfl rfl)
theorem dX14_keepFire_23 : decode cX14_keepFire 23 = .ok (.aload_n 0, 1) := dk_42 (dk_at dksX14_keepFire_0 23 rfl rfl)
theorem dX14_keepFire_24 : decode cX14_keepFire 24 = .ok (.getfield 105, 3) := dk_180 0 105 (dk_at dksX14_keepFire_1 0 rfl rfl)
theorem dX14_keepFire_27 : decode cX14_keepFire 27 = .ok (.iload_n 2, 1) := dk_28 (dk_at dksX14_keepFire_1 3 rfl rfl)
theorem dX14_keepFire_28 : decode cX14_keepFire 28 = .ok (.iaload, 1) := dk_46 (dk_at dksX14_keepFire_1 4 rfl rfl)
theorem dX14_keepFire_29 : decode cX14_keepFire 29 = .ok (.iastore, 1) := dk_79 (dk_at dksX14_keepFire_1 5 rfl rfl)
theorem dX14_keepFire_30 : decode cX14_keepFire 30 = .ok (.aload_n 0, 1) := dk_42 (dk_at dksX14_keepFire_1 6 rfl rfl)
theorem dX14_keepFire_31 : decode cX14_keepFire 31 = .ok (.getfield 130, 3) := dk_180 0 130 (dk_at dksX14_keepFire_1 7 rfl rfl)
theorem dX14_keepFire_34 : decode cX14_keepFire 34 = .ok (.sipush 192, 3) := dk_17 0 192 (dk_at dksX14_keepFire_1 10 rfl rfl)
theorem dX14_keepFire_37 : decode cX14_keepFire 37 = .ok (.iload_n 1, 1) := dk_27 (dk_at dksX14_keepFire_1 13 rfl rfl)
theorem dX14_keepFire_38 : decode cX14_keepFire 38 = .ok (.imul, 1) := dk_104 (dk_at dksX14_keepFire_1 14 rfl rfl)
theorem dX14_keepFire_39 : decode cX14_keepFire 39 = .ok (.iconst 3, 1) := dk_6 (dk_at dksX14_keepFire_1 15 rfl rfl)
theorem dX14_keepFire_40 : decode cX14_keepFire 40 = .ok (.iload_n 2, 1) := dk_28 (dk_at dksX14_keepFire_1 16 rfl rfl)
theorem dX14_keepFire_41 : decode cX14_keepFire 41 = .ok (.imul, 1) := dk_104 (dk_at dksX14_keepFire_1 17 rfl rfl)
theorem dX14_keepFire_42 : decode cX14_keepFire 42 = .ok (.iadd, 1) := dk_96 (dk_at dksX14_keepFire_1 18 rfl rfl)
theorem dX14_keepFire_43 : decode cX14_keepFire 43 = .ok (.iconst 1, 1) := dk_4 (dk_at dksX14_keepFire_1 19 rfl rfl)
theorem dX14_keepFire_44 : decode cX14_keepFire 44 = .ok (.iadd, 1) := dk_96 (dk_at dksX14_keepFire_1 20 rfl rfl)
theorem dX14_keepFire_45 : decode cX14_keepFire 45 = .ok (.aload_n 0, 1) := dk_42 (dk_at dksX14_keepFire_1 21 rfl rfl)
theorem dX14_keepFire_46 : decode cX14_keepFire 46 = .ok (.getfield 108, 3) := dk_180 0 108 (dk_at dksX14_keepFire_2 0 rfl rfl)
theorem dX14_keepFire_49 : decode cX14_keepFire 49 = .ok (.iload_n 2, 1) := dk_28 (dk_at dksX14_keepFire_2 3 rfl rfl)
theorem dX14_keepFire_50 : decode cX14_keepFire 50 = .ok (.iaload, 1) := dk_46 (dk_at dksX14_keepFire_2 4 rfl rfl)
theorem dX14_keepFire_51 : decode cX14_keepFire 51 = .ok (.iastore, 1) := dk_79 (dk_at dksX14_keepFire_2 5 rfl rfl)
theorem dX14_keepFire_52 : decode cX14_keepFire 52 = .ok (.aload_n 0, 1) := dk_42 (dk_at dksX14_keepFire_2 6 rfl rfl)
theorem dX14_keepFire_53 : decode cX14_keepFire 53 = .ok (.getfield 130, 3) := dk_180 0 130 (dk_at dksX14_keepFire_2 7 rfl rfl)
theorem dX14_keepFire_56 : decode cX14_keepFire 56 = .ok (.sipush 192, 3) := dk_17 0 192 (dk_at dksX14_keepFire_2 10 rfl rfl)
theorem dX14_keepFire_59 : decode cX14_keepFire 59 = .ok (.iload_n 1, 1) := dk_27 (dk_at dksX14_keepFire_2 13 rfl rfl)
theorem dX14_keepFire_60 : decode cX14_keepFire 60 = .ok (.imul, 1) := dk_104 (dk_at dksX14_keepFire_2 14 rfl rfl)
theorem dX14_keepFire_61 : decode cX14_keepFire 61 = .ok (.iconst 3, 1) := dk_6 (dk_at dksX14_keepFire_2 15 rfl rfl)
theorem dX14_keepFire_62 : decode cX14_keepFire 62 = .ok (.iload_n 2, 1) := dk_28 (dk_at dksX14_keepFire_2 16 rfl rfl)
theorem dX14_keepFire_63 : decode cX14_keepFire 63 = .ok (.imul, 1) := dk_104 (dk_at dksX14_keepFire_2 17 rfl rfl)
theorem dX14_keepFire_64 : decode cX14_keepFire 64 = .ok (.iadd, 1) := dk_96 (dk_at dksX14_keepFire_2 18 rfl rfl)
theorem dX14_keepFire_65 : decode cX14_keepFire 65 = .ok (.iconst 2, 1) := dk_5 (dk_at dksX14_keepFire_2 19 rfl rfl)
theorem dX14_keepFire_66 : decode cX14_keepFire 66 = .ok (.iadd, 1) := dk_96 (dk_at dksX14_keepFire_2 20 rfl rfl)
theorem dX14_keepFire_67 : decode cX14_keepFire 67 = .ok (.aload_n 0, 1) := dk_42 (dk_at dksX14_keepFire_2 21 rfl rfl)
theorem dX14_keepFire_68 : decode cX14_keepFire 68 = .ok (.getfield 111, 3) := dk_180 0 111 (dk_at dksX14_keepFire_3 0 rfl rfl)
theorem dX14_keepFire_71 : decode cX14_keepFire 71 = .ok (.iload_n 2, 1) := dk_28 (dk_at dksX14_keepFire_3 3 rfl rfl)
theorem dX14_keepFire_72 : decode cX14_keepFire 72 = .ok (.iaload, 1) := dk_46 (dk_at dksX14_keepFire_3 4 rfl rfl)
theorem dX14_keepFire_73 : decode cX14_keepFire 73 = .ok (.iastore, 1) := dk_79 (dk_at dksX14_keepFire_3 5 rfl rfl)
theorem dX14_keepFire_74 : decode cX14_keepFire 74 = .ok (.iinc 2 1, 3) := dk_132 2 1 (dk_at dksX14_keepFire_3 6 rfl rfl)
theorem dX14_keepFire_77 : decode cX14_keepFire 77 = .ok (.goto (-75), 3) := dk_167 255 181 (dk_at dksX14_keepFire_3 9 rfl rfl)
theorem dX14_keepFire_80 : decode cX14_keepFire 80 = .ok (.return_, 1) := dk_177 (dk_at dksX14_keepFire_3 12 rfl rfl)
abbrev cX14_bringFire : ByteArray := prog_23_method_87_code
def yX14_bringFire : MethodName := ⟨RX14, "bringFire", "(I)V"⟩
def dkwX14_bringFire_3 : List UInt8 := [46, 79, 132, 2, 1, 167, 255, 181, 177]
abbrev dktX14_bringFire_3 : List UInt8 := dkwX14_bringFire_3 ++ []
def dkwX14_bringFire_2 : List UInt8 := [4, 96, 46, 79, 42, 180, 0, 111, 28, 42, 180, 0, 130, 17, 0, 192, 27, 104, 6, 28, 104, 96, 5, 96]
abbrev dktX14_bringFire_2 : List UInt8 := dkwX14_bringFire_2 ++ dktX14_bringFire_3
def dkwX14_bringFire_1 : List UInt8 := [6, 28, 104, 96, 46, 79, 42, 180, 0, 108, 28, 42, 180, 0, 130, 17, 0, 192, 27, 104, 6, 28, 104, 96]
abbrev dktX14_bringFire_1 : List UInt8 := dkwX14_bringFire_1 ++ dktX14_bringFire_2
def dkwX14_bringFire_0 : List UInt8 := [3, 61, 28, 42, 182, 1, 170, 162, 0, 73, 42, 180, 0, 105, 28, 42, 180, 0, 130, 17, 0, 192, 27, 104]
abbrev dktX14_bringFire_0 : List UInt8 := dkwX14_bringFire_0 ++ dktX14_bringFire_1
theorem dksX14_bringFire_0 : cX14_bringFire.data.toList.drop 0 = dktX14_bringFire_0 := by decide +kernel
theorem dksX14_bringFire_1 : cX14_bringFire.data.toList.drop 24 = dktX14_bringFire_1 := dk_seg dksX14_bringFire_0 24 rfl rfl
theorem dksX14_bringFire_2 : cX14_bringFire.data.toList.drop 48 = dktX14_bringFire_2 := dk_seg dksX14_bringFire_1 24 rfl rfl
theorem dksX14_bringFire_3 : cX14_bringFire.data.toList.drop 72 = dktX14_bringFire_3 := dk_seg dksX14_bringFire_2 24 rfl rfl
theorem dX14_bringFire_0 : decode cX14_bringFire 0 = .ok (.iconst 0, 1) := dk_3 (dk_at dksX14_bringFire_0 0 rfl rfl)
theorem dX14_bringFire_1 : decode cX14_bringFire 1 = .ok (.istore_n 2, 1) := dk_61 (dk_at dksX14_bringFire_0 1 rfl rfl)
theorem dX14_bringFire_2 : decode cX14_bringFire 2 = .ok (.iload_n 2, 1) := dk_28 (dk_at dksX14_bringFire_0 2 rfl rfl)
theorem dX14_bringFire_3 : decode cX14_bringFire 3 = .ok (.aload_n 0, 1) := dk_42 (dk_at dksX14_bringFire_0 3 rfl rfl)
theorem dX14_bringFire_4 : decode cX14_bringFire 4 = .ok (.invokevirtual 426, 3) := dk_182 1 170 (dk_at dksX14_bringFire_0 4 rfl rfl)
theorem dX14_bringFire_7 : decode cX14_bringFire 7 = .ok (.if_icmp .ge 73, 3) := dk_162 0 73 (dk_at dksX14_bringFire_0 7 rfl rfl)
theorem dX14_bringFire_10 : decode cX14_bringFire 10 = .ok (.aload_n 0, 1) := dk_42 (dk_at dksX14_bringFire_0 10 rfl rfl)
theorem dX14_bringFire_11 : decode cX14_bringFire 11 = .ok (.getfield 105, 3) := dk_180 0 105 (dk_at dksX14_bringFire_0 11 rfl rfl)
theorem dX14_bringFire_14 : decode cX14_bringFire 14 = .ok (.iload_n 2, 1) := dk_28 (dk_at dksX14_bringFire_0 14 rfl rfl)
theorem dX14_bringFire_15 : decode cX14_bringFire 15 = .ok (.aload_n 0, 1) := dk_42 (dk_at dksX14_bringFire_0 15 rfl rfl)
theorem dX14_bringFire_16 : decode cX14_bringFire 16 = .ok (.getfield 130, 3) := dk_180 0 130 (dk_at dksX14_bringFire_0 16 rfl rfl)
theorem dX14_bringFire_19 : decode cX14_bringFire 19 = .ok (.sipush 192, 3) := dk_17 0 192 (dk_at dksX14_bringFire_0 19 rfl rfl)
theorem dX14_bringFire_22 : decode cX14_bringFire 22 = .ok (.iload_n 1, 1) := dk_27 (dk_at dksX14_bringFire_0 22 rfl rfl)
theorem dX14_bringFire_23 : decode cX14_bringFire 23 = .ok (.imul, 1) := dk_104 (dk_at dksX14_bringFire_0 23 rfl rfl)
theorem dX14_bringFire_24 : decode cX14_bringFire 24 = .ok (.iconst 3, 1) := dk_6 (dk_at dksX14_bringFire_1 0 rfl rfl)
theorem dX14_bringFire_25 : decode cX14_bringFire 25 = .ok (.iload_n 2, 1) := dk_28 (dk_at dksX14_bringFire_1 1 rfl rfl)
theorem dX14_bringFire_26 : decode cX14_bringFire 26 = .ok (.imul, 1) := dk_104 (dk_at dksX14_bringFire_1 2 rfl rfl)
theorem dX14_bringFire_27 : decode cX14_bringFire 27 = .ok (.iadd, 1) := dk_96 (dk_at dksX14_bringFire_1 3 rfl rfl)
theorem dX14_bringFire_28 : decode cX14_bringFire 28 = .ok (.iaload, 1) := dk_46 (dk_at dksX14_bringFire_1 4 rfl rfl)
theorem dX14_bringFire_29 : decode cX14_bringFire 29 = .ok (.iastore, 1) := dk_79 (dk_at dksX14_bringFire_1 5 rfl rfl)
theorem dX14_bringFire_30 : decode cX14_bringFire 30 = .ok (.aload_n 0, 1) := dk_42 (dk_at dksX14_bringFire_1 6 rfl rfl)
theorem dX14_bringFire_31 : decode cX14_bringFire 31 = .ok (.getfield 108, 3) := dk_180 0 108 (dk_at dksX14_bringFire_1 7 rfl rfl)
theorem dX14_bringFire_34 : decode cX14_bringFire 34 = .ok (.iload_n 2, 1) := dk_28 (dk_at dksX14_bringFire_1 10 rfl rfl)
theorem dX14_bringFire_35 : decode cX14_bringFire 35 = .ok (.aload_n 0, 1) := dk_42 (dk_at dksX14_bringFire_1 11 rfl rfl)
theorem dX14_bringFire_36 : decode cX14_bringFire 36 = .ok (.getfield 130, 3) := dk_180 0 130 (dk_at dksX14_bringFire_1 12 rfl rfl)
theorem dX14_bringFire_39 : decode cX14_bringFire 39 = .ok (.sipush 192, 3) := dk_17 0 192 (dk_at dksX14_bringFire_1 15 rfl rfl)
theorem dX14_bringFire_42 : decode cX14_bringFire 42 = .ok (.iload_n 1, 1) := dk_27 (dk_at dksX14_bringFire_1 18 rfl rfl)
theorem dX14_bringFire_43 : decode cX14_bringFire 43 = .ok (.imul, 1) := dk_104 (dk_at dksX14_bringFire_1 19 rfl rfl)
theorem dX14_bringFire_44 : decode cX14_bringFire 44 = .ok (.iconst 3, 1) := dk_6 (dk_at dksX14_bringFire_1 20 rfl rfl)
theorem dX14_bringFire_45 : decode cX14_bringFire 45 = .ok (.iload_n 2, 1) := dk_28 (dk_at dksX14_bringFire_1 21 rfl rfl)
theorem dX14_bringFire_46 : decode cX14_bringFire 46 = .ok (.imul, 1) := dk_104 (dk_at dksX14_bringFire_1 22 rfl rfl)
theorem dX14_bringFire_47 : decode cX14_bringFire 47 = .ok (.iadd, 1) := dk_96 (dk_at dksX14_bringFire_1 23 rfl rfl)
theorem dX14_bringFire_48 : decode cX14_bringFire 48 = .ok (.iconst 1, 1) := dk_4 (dk_at dksX14_bringFire_2 0 rfl rfl)
theorem dX14_bringFire_49 : decode cX14_bringFire 49 = .ok (.iadd, 1) := dk_96 (dk_at dksX14_bringFire_2 1 rfl rfl)
theorem dX14_bringFire_50 : decode cX14_bringFire 50 = .ok (.iaload, 1) := dk_46 (dk_at dksX14_bringFire_2 2 rfl rfl)
theorem dX14_bringFire_51 : decode cX14_bringFire 51 = .ok (.iastore, 1) := dk_79 (dk_at dksX14_bringFire_2 3 rfl rfl)
theorem dX14_bringFire_52 : decode cX14_bringFire 52 = .ok (.aload_n 0, 1) := dk_42 (dk_at dksX14_bringFire_2 4 rfl rfl)
theorem dX14_bringFire_53 : decode cX14_bringFire 53 = .ok (.getfield 111, 3) := dk_180 0 111 (dk_at dksX14_bringFire_2 5 rfl rfl)
theorem dX14_bringFire_56 : decode cX14_bringFire 56 = .ok (.iload_n 2, 1) := dk_28 (dk_at dksX14_bringFire_2 8 rfl rfl)
theorem dX14_bringFire_57 : decode cX14_bringFire 57 = .ok (.aload_n 0, 1) := dk_42 (dk_at dksX14_bringFire_2 9 rfl rfl)
theorem dX14_bringFire_58 : decode cX14_bringFire 58 = .ok (.getfield 130, 3) := dk_180 0 130 (dk_at dksX14_bringFire_2 10 rfl rfl)
theorem dX14_bringFire_61 : decode cX14_bringFire 61 = .ok (.sipush 192, 3) := dk_17 0 192 (dk_at dksX14_bringFire_2 13 rfl rfl)
theorem dX14_bringFire_64 : decode cX14_bringFire 64 = .ok (.iload_n 1, 1) := dk_27 (dk_at dksX14_bringFire_2 16 rfl rfl)
theorem dX14_bringFire_65 : decode cX14_bringFire 65 = .ok (.imul, 1) := dk_104 (dk_at dksX14_bringFire_2 17 rfl rfl)
theorem dX14_bringFire_66 : decode cX14_bringFire 66 = .ok (.iconst 3, 1) := dk_6 (dk_at dksX14_bringFire_2 18 rfl rfl)
theorem dX14_bringFire_67 : decode cX14_bringFire 67 = .ok (.iload_n 2, 1) := dk_28 (dk_at dksX14_bringFire_2 19 rfl rfl)
theorem dX14_bringFire_68 : decode cX14_bringFire 68 = .ok (.imul, 1) := dk_104 (dk_at dksX14_bringFire_2 20 rfl rfl)
theorem dX14_bringFire_69 : decode cX14_bringFire 69 = .ok (.iadd, 1) := dk_96 (dk_at dksX14_bringFire_2 21 rfl rfl)
theorem dX14_bringFire_70 : decode cX14_bringFire 70 = .ok (.iconst 2, 1) := dk_5 (dk_at dksX14_bringFire_2 22 rfl rfl)
theorem dX14_bringFire_71 : decode cX14_bringFire 71 = .ok (.iadd, 1) := dk_96 (dk_at dksX14_bringFire_2 23 rfl rfl)
theorem dX14_bringFire_72 : decode cX14_bringFire 72 = .ok (.iaload, 1) := dk_46 (dk_at dksX14_bringFire_3 0 rfl rfl)
theorem dX14_bringFire_73 : decode cX14_bringFire 73 = .ok (.iastore, 1) := dk_79 (dk_at dksX14_bringFire_3 1 rfl rfl)
theorem dX14_bringFire_74 : decode cX14_bringFire 74 = .ok (.iinc 2 1, 3) := dk_132 2 1 (dk_at dksX14_bringFire_3 2 rfl rfl)
theorem dX14_bringFire_77 : decode cX14_bringFire 77 = .ok (.goto (-75), 3) := dk_167 255 181 (dk_at dksX14_bringFire_3 5 rfl rfl)
theorem dX14_bringFire_80 : decode cX14_bringFire 80 = .ok (.return_, 1) := dk_177 (dk_at dksX14_bringFire_3 8 rfl rfl)
abbrev cX14_aimAt : ByteArray := prog_23_method_90_code
def yX14_aimAt : MethodName := ⟨RX14, "aimAt", "(I)I"⟩
def dkwX14_aimAt_1 : List UInt8 := [167, 0, 4, 2, 172]
abbrev dktX14_aimAt_1 : List UInt8 := dkwX14_aimAt_1 ++ []
def dkwX14_aimAt_0 : List UInt8 := [42, 3, 181, 0, 148, 27, 155, 0, 20, 27, 42, 180, 1, 226, 162, 0, 12, 42, 180, 0, 139, 27, 46]
abbrev dktX14_aimAt_0 : List UInt8 := dkwX14_aimAt_0 ++ dktX14_aimAt_1
theorem dksX14_aimAt_0 : cX14_aimAt.data.toList.drop 0 = dktX14_aimAt_0 := by decide +kernel
theorem dksX14_aimAt_1 : cX14_aimAt.data.toList.drop 23 = dktX14_aimAt_1 := dk_seg dksX14_aimAt_0 23 rfl rfl
theorem dX14_aimAt_0 : decode cX14_aimAt 0 = .ok (.aload_n 0, 1) := dk_42 (dk_at dksX14_aimAt_0 0 rfl rfl)
theorem dX14_aimAt_1 : decode cX14_aimAt 1 = .ok (.iconst 0, 1) := dk_3 (dk_at dksX14_aimAt_0 1 rfl rfl)
theorem dX14_aimAt_2 : decode cX14_aimAt 2 = .ok (.putfield 148, 3) := dk_181 0 148 (dk_at dksX14_aimAt_0 2 rfl rfl)
theorem dX14_aimAt_5 : decode cX14_aimAt 5 = .ok (.iload_n 1, 1) := dk_27 (dk_at dksX14_aimAt_0 5 rfl rfl)
theorem dX14_aimAt_6 : decode cX14_aimAt 6 = .ok (.ifCond .lt 20, 3) := dk_155 0 20 (dk_at dksX14_aimAt_0 6 rfl rfl)
theorem dX14_aimAt_9 : decode cX14_aimAt 9 = .ok (.iload_n 1, 1) := dk_27 (dk_at dksX14_aimAt_0 9 rfl rfl)
theorem dX14_aimAt_10 : decode cX14_aimAt 10 = .ok (.aload_n 0, 1) := dk_42 (dk_at dksX14_aimAt_0 10 rfl rfl)
theorem dX14_aimAt_11 : decode cX14_aimAt 11 = .ok (.getfield 482, 3) := dk_180 1 226 (dk_at dksX14_aimAt_0 11 rfl rfl)
theorem dX14_aimAt_14 : decode cX14_aimAt 14 = .ok (.if_icmp .ge 12, 3) := dk_162 0 12 (dk_at dksX14_aimAt_0 14 rfl rfl)
theorem dX14_aimAt_17 : decode cX14_aimAt 17 = .ok (.aload_n 0, 1) := dk_42 (dk_at dksX14_aimAt_0 17 rfl rfl)
theorem dX14_aimAt_18 : decode cX14_aimAt 18 = .ok (.getfield 139, 3) := dk_180 0 139 (dk_at dksX14_aimAt_0 18 rfl rfl)
theorem dX14_aimAt_21 : decode cX14_aimAt 21 = .ok (.iload_n 1, 1) := dk_27 (dk_at dksX14_aimAt_0 21 rfl rfl)
theorem dX14_aimAt_22 : decode cX14_aimAt 22 = .ok (.iaload, 1) := dk_46 (dk_at dksX14_aimAt_0 22 rfl rfl)
theorem dX14_aimAt_23 : decode cX14_aimAt 23 = .ok (.goto 4, 3) := dk_167 0 4 (dk_at dksX14_aimAt_1 0 rfl rfl)
theorem dX14_aimAt_26 : decode cX14_aimAt 26 = .ok (.iconst (-1), 1) := dk_2 (dk_at dksX14_aimAt_1 3 rfl rfl)
theorem dX14_aimAt_27 : decode cX14_aimAt 27 = .ok (.ireturn, 1) := dk_172 (dk_at dksX14_aimAt_1 4 rfl rfl)
abbrev cX14_give : ByteArray := prog_23_method_92_code
def yX14_give : MethodName := ⟨RX14, "give", "(I)I"⟩
def dkwX14_give_4 : List UInt8 := [96, 61, 21, 4, 62, 132, 4, 1, 167, 255, 198, 29, 172]
abbrev dktX14_give_4 : List UInt8 := dkwX14_give_4 ++ []
def dkwX14_give_3 : List UInt8 := [3, 182, 1, 198, 42, 180, 1, 167, 21, 5, 96, 28, 161, 0, 6, 167, 0, 14, 42, 180, 1, 167, 21, 5]
abbrev dktX14_give_3 : List UInt8 := dkwX14_give_3 ++ dktX14_give_4
def dkwX14_give_2 : List UInt8 := [42, 182, 1, 42, 162, 0, 55, 42, 182, 1, 195, 42, 21, 4, 182, 1, 229, 54, 5, 42, 16, 30, 27, 4]
abbrev dktX14_give_2 : List UInt8 := dkwX14_give_2 ++ dktX14_give_3
def dkwX14_give_1 : List UInt8 := [182, 1, 195, 42, 16, 30, 27, 4, 3, 182, 1, 198, 42, 180, 1, 167, 61, 2, 62, 3, 54, 4, 21, 4]
abbrev dktX14_give_1 : List UInt8 := dkwX14_give_1 ++ dktX14_give_2
def dkwX14_give_0 : List UInt8 := [42, 3, 181, 0, 148, 42, 182, 0, 232, 27, 3, 17, 3, 231, 184, 0, 219, 154, 0, 5, 2, 172, 42]
abbrev dktX14_give_0 : List UInt8 := dkwX14_give_0 ++ dktX14_give_1
theorem dksX14_give_0 : cX14_give.data.toList.drop 0 = dktX14_give_0 := by decide +kernel
theorem dksX14_give_1 : cX14_give.data.toList.drop 23 = dktX14_give_1 := dk_seg dksX14_give_0 23 rfl rfl
theorem dksX14_give_2 : cX14_give.data.toList.drop 47 = dktX14_give_2 := dk_seg dksX14_give_1 24 rfl rfl
theorem dksX14_give_3 : cX14_give.data.toList.drop 71 = dktX14_give_3 := dk_seg dksX14_give_2 24 rfl rfl
theorem dksX14_give_4 : cX14_give.data.toList.drop 95 = dktX14_give_4 := dk_seg dksX14_give_3 24 rfl rfl
theorem dX14_give_0 : decode cX14_give 0 = .ok (.aload_n 0, 1) := dk_42 (dk_at dksX14_give_0 0 rfl rfl)
theorem dX14_give_1 : decode cX14_give 1 = .ok (.iconst 0, 1) := dk_3 (dk_at dksX14_give_0 1 rfl rfl)
theorem dX14_give_2 : decode cX14_give 2 = .ok (.putfield 148, 3) := dk_181 0 148 (dk_at dksX14_give_0 2 rfl rfl)
theorem dX14_give_5 : decode cX14_give 5 = .ok (.aload_n 0, 1) := dk_42 (dk_at dksX14_give_0 5 rfl rfl)
theorem dX14_give_6 : decode cX14_give 6 = .ok (.invokevirtual 232, 3) := dk_182 0 232 (dk_at dksX14_give_0 6 rfl rfl)
theorem dX14_give_9 : decode cX14_give 9 = .ok (.iload_n 1, 1) := dk_27 (dk_at dksX14_give_0 9 rfl rfl)
theorem dX14_give_10 : decode cX14_give 10 = .ok (.iconst 0, 1) := dk_3 (dk_at dksX14_give_0 10 rfl rfl)
theorem dX14_give_11 : decode cX14_give 11 = .ok (.sipush 999, 3) := dk_17 3 231 (dk_at dksX14_give_0 11 rfl rfl)
theorem dX14_give_14 : decode cX14_give 14 = .ok (.invokestatic 219, 3) := dk_184 0 219 (dk_at dksX14_give_0 14 rfl rfl)
theorem dX14_give_17 : decode cX14_give 17 = .ok (.ifCond .ne 5, 3) := dk_154 0 5 (dk_at dksX14_give_0 17 rfl rfl)
theorem dX14_give_20 : decode cX14_give 20 = .ok (.iconst (-1), 1) := dk_2 (dk_at dksX14_give_0 20 rfl rfl)
theorem dX14_give_21 : decode cX14_give 21 = .ok (.ireturn, 1) := dk_172 (dk_at dksX14_give_0 21 rfl rfl)
theorem dX14_give_22 : decode cX14_give 22 = .ok (.aload_n 0, 1) := dk_42 (dk_at dksX14_give_0 22 rfl rfl)
theorem dX14_give_23 : decode cX14_give 23 = .ok (.invokevirtual 451, 3) := dk_182 1 195 (dk_at dksX14_give_1 0 rfl rfl)
theorem dX14_give_26 : decode cX14_give 26 = .ok (.aload_n 0, 1) := dk_42 (dk_at dksX14_give_1 3 rfl rfl)
theorem dX14_give_27 : decode cX14_give 27 = .ok (.bipush 30, 2) := dk_16 30 (dk_at dksX14_give_1 4 rfl rfl)
theorem dX14_give_29 : decode cX14_give 29 = .ok (.iload_n 1, 1) := dk_27 (dk_at dksX14_give_1 6 rfl rfl)
theorem dX14_give_30 : decode cX14_give 30 = .ok (.iconst 1, 1) := dk_4 (dk_at dksX14_give_1 7 rfl rfl)
theorem dX14_give_31 : decode cX14_give 31 = .ok (.iconst 0, 1) := dk_3 (dk_at dksX14_give_1 8 rfl rfl)
theorem dX14_give_32 : decode cX14_give 32 = .ok (.invokevirtual 454, 3) := dk_182 1 198 (dk_at dksX14_give_1 9 rfl rfl)
theorem dX14_give_35 : decode cX14_give 35 = .ok (.aload_n 0, 1) := dk_42 (dk_at dksX14_give_1 12 rfl rfl)
theorem dX14_give_36 : decode cX14_give 36 = .ok (.getfield 423, 3) := dk_180 1 167 (dk_at dksX14_give_1 13 rfl rfl)
theorem dX14_give_39 : decode cX14_give 39 = .ok (.istore_n 2, 1) := dk_61 (dk_at dksX14_give_1 16 rfl rfl)
theorem dX14_give_40 : decode cX14_give 40 = .ok (.iconst (-1), 1) := dk_2 (dk_at dksX14_give_1 17 rfl rfl)
theorem dX14_give_41 : decode cX14_give 41 = .ok (.istore_n 3, 1) := dk_62 (dk_at dksX14_give_1 18 rfl rfl)
theorem dX14_give_42 : decode cX14_give 42 = .ok (.iconst 0, 1) := dk_3 (dk_at dksX14_give_1 19 rfl rfl)
theorem dX14_give_43 : decode cX14_give 43 = .ok (.istore 4, 2) := dk_54 4 (dk_at dksX14_give_1 20 rfl rfl)
theorem dX14_give_45 : decode cX14_give 45 = .ok (.iload 4, 2) := dk_21 4 (dk_at dksX14_give_1 22 rfl rfl)
theorem dX14_give_47 : decode cX14_give 47 = .ok (.aload_n 0, 1) := dk_42 (dk_at dksX14_give_2 0 rfl rfl)
theorem dX14_give_48 : decode cX14_give 48 = .ok (.invokevirtual 298, 3) := dk_182 1 42 (dk_at dksX14_give_2 1 rfl rfl)
theorem dX14_give_51 : decode cX14_give 51 = .ok (.if_icmp .ge 55, 3) := dk_162 0 55 (dk_at dksX14_give_2 4 rfl rfl)
theorem dX14_give_54 : decode cX14_give 54 = .ok (.aload_n 0, 1) := dk_42 (dk_at dksX14_give_2 7 rfl rfl)
theorem dX14_give_55 : decode cX14_give 55 = .ok (.invokevirtual 451, 3) := dk_182 1 195 (dk_at dksX14_give_2 8 rfl rfl)
theorem dX14_give_58 : decode cX14_give 58 = .ok (.aload_n 0, 1) := dk_42 (dk_at dksX14_give_2 11 rfl rfl)
theorem dX14_give_59 : decode cX14_give 59 = .ok (.iload 4, 2) := dk_21 4 (dk_at dksX14_give_2 12 rfl rfl)
theorem dX14_give_61 : decode cX14_give 61 = .ok (.invokevirtual 485, 3) := dk_182 1 229 (dk_at dksX14_give_2 14 rfl rfl)
theorem dX14_give_64 : decode cX14_give 64 = .ok (.istore 5, 2) := dk_54 5 (dk_at dksX14_give_2 17 rfl rfl)
theorem dX14_give_66 : decode cX14_give 66 = .ok (.aload_n 0, 1) := dk_42 (dk_at dksX14_give_2 19 rfl rfl)
theorem dX14_give_67 : decode cX14_give 67 = .ok (.bipush 30, 2) := dk_16 30 (dk_at dksX14_give_2 20 rfl rfl)
theorem dX14_give_69 : decode cX14_give 69 = .ok (.iload_n 1, 1) := dk_27 (dk_at dksX14_give_2 22 rfl rfl)
theorem dX14_give_70 : decode cX14_give 70 = .ok (.iconst 1, 1) := dk_4 (dk_at dksX14_give_2 23 rfl rfl)
theorem dX14_give_71 : decode cX14_give 71 = .ok (.iconst 0, 1) := dk_3 (dk_at dksX14_give_3 0 rfl rfl)
theorem dX14_give_72 : decode cX14_give 72 = .ok (.invokevirtual 454, 3) := dk_182 1 198 (dk_at dksX14_give_3 1 rfl rfl)
theorem dX14_give_75 : decode cX14_give 75 = .ok (.aload_n 0, 1) := dk_42 (dk_at dksX14_give_3 4 rfl rfl)
theorem dX14_give_76 : decode cX14_give 76 = .ok (.getfield 423, 3) := dk_180 1 167 (dk_at dksX14_give_3 5 rfl rfl)
theorem dX14_give_79 : decode cX14_give 79 = .ok (.iload 5, 2) := dk_21 5 (dk_at dksX14_give_3 8 rfl rfl)
theorem dX14_give_81 : decode cX14_give 81 = .ok (.iadd, 1) := dk_96 (dk_at dksX14_give_3 10 rfl rfl)
theorem dX14_give_82 : decode cX14_give 82 = .ok (.iload_n 2, 1) := dk_28 (dk_at dksX14_give_3 11 rfl rfl)
theorem dX14_give_83 : decode cX14_give 83 = .ok (.if_icmp .lt 6, 3) := dk_161 0 6 (dk_at dksX14_give_3 12 rfl rfl)
theorem dX14_give_86 : decode cX14_give 86 = .ok (.goto 14, 3) := dk_167 0 14 (dk_at dksX14_give_3 15 rfl rfl)
theorem dX14_give_89 : decode cX14_give 89 = .ok (.aload_n 0, 1) := dk_42 (dk_at dksX14_give_3 18 rfl rfl)
theorem dX14_give_90 : decode cX14_give 90 = .ok (.getfield 423, 3) := dk_180 1 167 (dk_at dksX14_give_3 19 rfl rfl)
theorem dX14_give_93 : decode cX14_give 93 = .ok (.iload 5, 2) := dk_21 5 (dk_at dksX14_give_3 22 rfl rfl)
theorem dX14_give_95 : decode cX14_give 95 = .ok (.iadd, 1) := dk_96 (dk_at dksX14_give_4 0 rfl rfl)
theorem dX14_give_96 : decode cX14_give 96 = .ok (.istore_n 2, 1) := dk_61 (dk_at dksX14_give_4 1 rfl rfl)
theorem dX14_give_97 : decode cX14_give 97 = .ok (.iload 4, 2) := dk_21 4 (dk_at dksX14_give_4 2 rfl rfl)
theorem dX14_give_99 : decode cX14_give 99 = .ok (.istore_n 3, 1) := dk_62 (dk_at dksX14_give_4 4 rfl rfl)
theorem dX14_give_100 : decode cX14_give 100 = .ok (.iinc 4 1, 3) := dk_132 4 1 (dk_at dksX14_give_4 5 rfl rfl)
theorem dX14_give_103 : decode cX14_give 103 = .ok (.goto (-58), 3) := dk_167 255 198 (dk_at dksX14_give_4 8 rfl rfl)
theorem dX14_give_106 : decode cX14_give 106 = .ok (.iload_n 3, 1) := dk_29 (dk_at dksX14_give_4 11 rfl rfl)
theorem dX14_give_107 : decode cX14_give 107 = .ok (.ireturn, 1) := dk_172 (dk_at dksX14_give_4 12 rfl rfl)
abbrev cX14_givesUp : ByteArray := prog_23_method_91_code
def yX14_givesUp : MethodName := ⟨RX14, "givesUp", "(I)I"⟩
def dkwX14_givesUp_2 : List UInt8 := [21, 4, 3, 79, 132, 3, 1, 167, 255, 206, 28, 172]
abbrev dktX14_givesUp_2 : List UInt8 := dkwX14_givesUp_2 ++ []
def dkwX14_givesUp_1 : List UInt8 := [54, 4, 28, 42, 180, 0, 105, 21, 4, 46, 96, 61, 42, 180, 0, 105, 21, 4, 3, 79, 42, 180, 0, 108]
abbrev dktX14_givesUp_1 : List UInt8 := dkwX14_givesUp_1 ++ dktX14_givesUp_2
def dkwX14_givesUp_0 : List UInt8 := [3, 61, 3, 62, 29, 42, 180, 0, 13, 16, 10, 46, 162, 0, 45, 42, 182, 1, 42, 29, 104, 27, 96]
abbrev dktX14_givesUp_0 : List UInt8 := dkwX14_givesUp_0 ++ dktX14_givesUp_1
theorem dksX14_givesUp_0 : cX14_givesUp.data.toList.drop 0 = dktX14_givesUp_0 := by decide +kernel
theorem dksX14_givesUp_1 : cX14_givesUp.data.toList.drop 23 = dktX14_givesUp_1 := dk_seg dksX14_givesUp_0 23 rfl rfl
theorem dksX14_givesUp_2 : cX14_givesUp.data.toList.drop 47 = dktX14_givesUp_2 := dk_seg dksX14_givesUp_1 24 rfl rfl
theorem dX14_givesUp_0 : decode cX14_givesUp 0 = .ok (.iconst 0, 1) := dk_3 (dk_at dksX14_givesUp_0 0 rfl rfl)
theorem dX14_givesUp_1 : decode cX14_givesUp 1 = .ok (.istore_n 2, 1) := dk_61 (dk_at dksX14_givesUp_0 1 rfl rfl)
theorem dX14_givesUp_2 : decode cX14_givesUp 2 = .ok (.iconst 0, 1) := dk_3 (dk_at dksX14_givesUp_0 2 rfl rfl)
theorem dX14_givesUp_3 : decode cX14_givesUp 3 = .ok (.istore_n 3, 1) := dk_62 (dk_at dksX14_givesUp_0 3 rfl rfl)
theorem dX14_givesUp_4 : decode cX14_givesUp 4 = .ok (.iload_n 3, 1) := dk_29 (dk_at dksX14_givesUp_0 4 rfl rfl)
theorem dX14_givesUp_5 : decode cX14_givesUp 5 = .ok (.aload_n 0, 1) := dk_42 (dk_at dksX14_givesUp_0 5 rfl rfl)
theorem dX14_givesUp_6 : decode cX14_givesUp 6 = .ok (.getfield 13, 3) := dk_180 0 13 (dk_at dksX14_givesUp_0 6 rfl rfl)
theorem dX14_givesUp_9 : decode cX14_givesUp 9 = .ok (.bipush 10, 2) := dk_16 10 (dk_at dksX14_givesUp_0 9 rfl rfl)
theorem dX14_givesUp_11 : decode cX14_givesUp 11 = .ok (.iaload, 1) := dk_46 (dk_at dksX14_givesUp_0 11 rfl rfl)
theorem dX14_givesUp_12 : decode cX14_givesUp 12 = .ok (.if_icmp .ge 45, 3) := dk_162 0 45 (dk_at dksX14_givesUp_0 12 rfl rfl)
theorem dX14_givesUp_15 : decode cX14_givesUp 15 = .ok (.aload_n 0, 1) := dk_42 (dk_at dksX14_givesUp_0 15 rfl rfl)
theorem dX14_givesUp_16 : decode cX14_givesUp 16 = .ok (.invokevirtual 298, 3) := dk_182 1 42 (dk_at dksX14_givesUp_0 16 rfl rfl)
theorem dX14_givesUp_19 : decode cX14_givesUp 19 = .ok (.iload_n 3, 1) := dk_29 (dk_at dksX14_givesUp_0 19 rfl rfl)
theorem dX14_givesUp_20 : decode cX14_givesUp 20 = .ok (.imul, 1) := dk_104 (dk_at dksX14_givesUp_0 20 rfl rfl)
theorem dX14_givesUp_21 : decode cX14_givesUp 21 = .ok (.iload_n 1, 1) := dk_27 (dk_at dksX14_givesUp_0 21 rfl rfl)
theorem dX14_givesUp_22 : decode cX14_givesUp 22 = .ok (.iadd, 1) := dk_96 (dk_at dksX14_givesUp_0 22 rfl rfl)
theorem dX14_givesUp_23 : decode cX14_givesUp 23 = .ok (.istore 4, 2) := dk_54 4 (dk_at dksX14_givesUp_1 0 rfl rfl)
theorem dX14_givesUp_25 : decode cX14_givesUp 25 = .ok (.iload_n 2, 1) := dk_28 (dk_at dksX14_givesUp_1 2 rfl rfl)
theorem dX14_givesUp_26 : decode cX14_givesUp 26 = .ok (.aload_n 0, 1) := dk_42 (dk_at dksX14_givesUp_1 3 rfl rfl)
theorem dX14_givesUp_27 : decode cX14_givesUp 27 = .ok (.getfield 105, 3) := dk_180 0 105 (dk_at dksX14_givesUp_1 4 rfl rfl)
theorem dX14_givesUp_30 : decode cX14_givesUp 30 = .ok (.iload 4, 2) := dk_21 4 (dk_at dksX14_givesUp_1 7 rfl rfl)
theorem dX14_givesUp_32 : decode cX14_givesUp 32 = .ok (.iaload, 1) := dk_46 (dk_at dksX14_givesUp_1 9 rfl rfl)
theorem dX14_givesUp_33 : decode cX14_givesUp 33 = .ok (.iadd, 1) := dk_96 (dk_at dksX14_givesUp_1 10 rfl rfl)
theorem dX14_givesUp_34 : decode cX14_givesUp 34 = .ok (.istore_n 2, 1) := dk_61 (dk_at dksX14_givesUp_1 11 rfl rfl)
theorem dX14_givesUp_35 : decode cX14_givesUp 35 = .ok (.aload_n 0, 1) := dk_42 (dk_at dksX14_givesUp_1 12 rfl rfl)
theorem dX14_givesUp_36 : decode cX14_givesUp 36 = .ok (.getfield 105, 3) := dk_180 0 105 (dk_at dksX14_givesUp_1 13 rfl rfl)
theorem dX14_givesUp_39 : decode cX14_givesUp 39 = .ok (.iload 4, 2) := dk_21 4 (dk_at dksX14_givesUp_1 16 rfl rfl)
theorem dX14_givesUp_41 : decode cX14_givesUp 41 = .ok (.iconst 0, 1) := dk_3 (dk_at dksX14_givesUp_1 18 rfl rfl)
theorem dX14_givesUp_42 : decode cX14_givesUp 42 = .ok (.iastore, 1) := dk_79 (dk_at dksX14_givesUp_1 19 rfl rfl)
theorem dX14_givesUp_43 : decode cX14_givesUp 43 = .ok (.aload_n 0, 1) := dk_42 (dk_at dksX14_givesUp_1 20 rfl rfl)
theorem dX14_givesUp_44 : decode cX14_givesUp 44 = .ok (.getfield 108, 3) := dk_180 0 108 (dk_at dksX14_givesUp_1 21 rfl rfl)
theorem dX14_givesUp_47 : decode cX14_givesUp 47 = .ok (.iload 4, 2) := dk_21 4 (dk_at dksX14_givesUp_2 0 rfl rfl)
theorem dX14_givesUp_49 : decode cX14_givesUp 49 = .ok (.iconst 0, 1) := dk_3 (dk_at dksX14_givesUp_2 2 rfl rfl)
theorem dX14_givesUp_50 : decode cX14_givesUp 50 = .ok (.iastore, 1) := dk_79 (dk_at dksX14_givesUp_2 3 rfl rfl)
theorem dX14_givesUp_51 : decode cX14_givesUp 51 = .ok (.iinc 3 1, 3) := dk_132 3 1 (dk_at dksX14_givesUp_2 4 rfl rfl)
theorem dX14_givesUp_54 : decode cX14_givesUp 54 = .ok (.goto (-50), 3) := dk_167 255 206 (dk_at dksX14_givesUp_2 7 rfl rfl)
theorem dX14_givesUp_57 : decode cX14_givesUp 57 = .ok (.iload_n 2, 1) := dk_28 (dk_at dksX14_givesUp_2 10 rfl rfl)
theorem dX14_givesUp_58 : decode cX14_givesUp 58 = .ok (.ireturn, 1) := dk_172 (dk_at dksX14_givesUp_2 11 rfl rfl)
abbrev cX14_enough : ByteArray := prog_23_method_93_code
def yX14_enough : MethodName := ⟨RX14, "enough", "(II)I"⟩
def dkwX14_enough_2 : List UInt8 := [182, 1, 198, 42, 180, 1, 183, 2, 159, 0, 5, 29, 172, 132, 3, 1, 167, 255, 224, 2, 172]
abbrev dktX14_enough_2 : List UInt8 := dkwX14_enough_2 ++ []
def dkwX14_enough_1 : List UInt8 := [154, 0, 6, 16, 254, 172, 3, 62, 29, 17, 0, 200, 163, 0, 31, 42, 182, 1, 195, 42, 28, 29, 27, 3]
abbrev dktX14_enough_1 : List UInt8 := dkwX14_enough_1 ++ dktX14_enough_2
def dkwX14_enough_0 : List UInt8 := [42, 3, 181, 0, 148, 42, 182, 0, 232, 42, 27, 182, 1, 192, 153, 0, 13, 28, 4, 16, 60, 184, 0, 219]
abbrev dktX14_enough_0 : List UInt8 := dkwX14_enough_0 ++ dktX14_enough_1
theorem dksX14_enough_0 : cX14_enough.data.toList.drop 0 = dktX14_enough_0 := by decide +kernel
theorem dksX14_enough_1 : cX14_enough.data.toList.drop 24 = dktX14_enough_1 := dk_seg dksX14_enough_0 24 rfl rfl
theorem dksX14_enough_2 : cX14_enough.data.toList.drop 48 = dktX14_enough_2 := dk_seg dksX14_enough_1 24 rfl rfl
theorem dX14_enough_0 : decode cX14_enough 0 = .ok (.aload_n 0, 1) := dk_42 (dk_at dksX14_enough_0 0 rfl rfl)
theorem dX14_enough_1 : decode cX14_enough 1 = .ok (.iconst 0, 1) := dk_3 (dk_at dksX14_enough_0 1 rfl rfl)
theorem dX14_enough_2 : decode cX14_enough 2 = .ok (.putfield 148, 3) := dk_181 0 148 (dk_at dksX14_enough_0 2 rfl rfl)
theorem dX14_enough_5 : decode cX14_enough 5 = .ok (.aload_n 0, 1) := dk_42 (dk_at dksX14_enough_0 5 rfl rfl)
theorem dX14_enough_6 : decode cX14_enough 6 = .ok (.invokevirtual 232, 3) := dk_182 0 232 (dk_at dksX14_enough_0 6 rfl rfl)
theorem dX14_enough_9 : decode cX14_enough 9 = .ok (.aload_n 0, 1) := dk_42 (dk_at dksX14_enough_0 9 rfl rfl)
theorem dX14_enough_10 : decode cX14_enough 10 = .ok (.iload_n 1, 1) := dk_27 (dk_at dksX14_enough_0 10 rfl rfl)
theorem dX14_enough_11 : decode cX14_enough 11 = .ok (.invokevirtual 448, 3) := dk_182 1 192 (dk_at dksX14_enough_0 11 rfl rfl)
theorem dX14_enough_14 : decode cX14_enough 14 = .ok (.ifCond .eq 13, 3) := dk_153 0 13 (dk_at dksX14_enough_0 14 rfl rfl)
theorem dX14_enough_17 : decode cX14_enough 17 = .ok (.iload_n 2, 1) := dk_28 (dk_at dksX14_enough_0 17 rfl rfl)
theorem dX14_enough_18 : decode cX14_enough 18 = .ok (.iconst 1, 1) := dk_4 (dk_at dksX14_enough_0 18 rfl rfl)
theorem dX14_enough_19 : decode cX14_enough 19 = .ok (.bipush 60, 2) := dk_16 60 (dk_at dksX14_enough_0 19 rfl rfl)
theorem dX14_enough_21 : decode cX14_enough 21 = .ok (.invokestatic 219, 3) := dk_184 0 219 (dk_at dksX14_enough_0 21 rfl rfl)
theorem dX14_enough_24 : decode cX14_enough 24 = .ok (.ifCond .ne 6, 3) := dk_154 0 6 (dk_at dksX14_enough_1 0 rfl rfl)
theorem dX14_enough_27 : decode cX14_enough 27 = .ok (.bipush (-2), 2) := dk_16 254 (dk_at dksX14_enough_1 3 rfl rfl)
theorem dX14_enough_29 : decode cX14_enough 29 = .ok (.ireturn, 1) := dk_172 (dk_at dksX14_enough_1 5 rfl rfl)
theorem dX14_enough_30 : decode cX14_enough 30 = .ok (.iconst 0, 1) := dk_3 (dk_at dksX14_enough_1 6 rfl rfl)
theorem dX14_enough_31 : decode cX14_enough 31 = .ok (.istore_n 3, 1) := dk_62 (dk_at dksX14_enough_1 7 rfl rfl)
theorem dX14_enough_32 : decode cX14_enough 32 = .ok (.iload_n 3, 1) := dk_29 (dk_at dksX14_enough_1 8 rfl rfl)
theorem dX14_enough_33 : decode cX14_enough 33 = .ok (.sipush 200, 3) := dk_17 0 200 (dk_at dksX14_enough_1 9 rfl rfl)
theorem dX14_enough_36 : decode cX14_enough 36 = .ok (.if_icmp .gt 31, 3) := dk_163 0 31 (dk_at dksX14_enough_1 12 rfl rfl)
theorem dX14_enough_39 : decode cX14_enough 39 = .ok (.aload_n 0, 1) := dk_42 (dk_at dksX14_enough_1 15 rfl rfl)
theorem dX14_enough_40 : decode cX14_enough 40 = .ok (.invokevirtual 451, 3) := dk_182 1 195 (dk_at dksX14_enough_1 16 rfl rfl)
theorem dX14_enough_43 : decode cX14_enough 43 = .ok (.aload_n 0, 1) := dk_42 (dk_at dksX14_enough_1 19 rfl rfl)
theorem dX14_enough_44 : decode cX14_enough 44 = .ok (.iload_n 2, 1) := dk_28 (dk_at dksX14_enough_1 20 rfl rfl)
theorem dX14_enough_45 : decode cX14_enough 45 = .ok (.iload_n 3, 1) := dk_29 (dk_at dksX14_enough_1 21 rfl rfl)
theorem dX14_enough_46 : decode cX14_enough 46 = .ok (.iload_n 1, 1) := dk_27 (dk_at dksX14_enough_1 22 rfl rfl)
theorem dX14_enough_47 : decode cX14_enough 47 = .ok (.iconst 0, 1) := dk_3 (dk_at dksX14_enough_1 23 rfl rfl)
theorem dX14_enough_48 : decode cX14_enough 48 = .ok (.invokevirtual 454, 3) := dk_182 1 198 (dk_at dksX14_enough_2 0 rfl rfl)
theorem dX14_enough_51 : decode cX14_enough 51 = .ok (.aload_n 0, 1) := dk_42 (dk_at dksX14_enough_2 3 rfl rfl)
theorem dX14_enough_52 : decode cX14_enough 52 = .ok (.getfield 439, 3) := dk_180 1 183 (dk_at dksX14_enough_2 4 rfl rfl)
theorem dX14_enough_55 : decode cX14_enough 55 = .ok (.iconst (-1), 1) := dk_2 (dk_at dksX14_enough_2 7 rfl rfl)
theorem dX14_enough_56 : decode cX14_enough 56 = .ok (.if_icmp .eq 5, 3) := dk_159 0 5 (dk_at dksX14_enough_2 8 rfl rfl)
theorem dX14_enough_59 : decode cX14_enough 59 = .ok (.iload_n 3, 1) := dk_29 (dk_at dksX14_enough_2 11 rfl rfl)
theorem dX14_enough_60 : decode cX14_enough 60 = .ok (.ireturn, 1) := dk_172 (dk_at dksX14_enough_2 12 rfl rfl)
theorem dX14_enough_61 : decode cX14_enough 61 = .ok (.iinc 3 1, 3) := dk_132 3 1 (dk_at dksX14_enough_2 13 rfl rfl)
theorem dX14_enough_64 : decode cX14_enough 64 = .ok (.goto (-32), 3) := dk_167 255 224 (dk_at dksX14_enough_2 16 rfl rfl)
theorem dX14_enough_67 : decode cX14_enough 67 = .ok (.iconst (-1), 1) := dk_2 (dk_at dksX14_enough_2 19 rfl rfl)
theorem dX14_enough_68 : decode cX14_enough 68 = .ok (.ireturn, 1) := dk_172 (dk_at dksX14_enough_2 20 rfl rfl)
abbrev cX14_plan : ByteArray := prog_23_method_97_code
def yX14_plan : MethodName := ⟨RX14, "plan", "()I"⟩
def dkwX14_plan_3 : List UInt8 := [180, 0, 13, 17, 0, 200, 42, 180, 1, 235, 79, 42, 180, 1, 235, 172]
abbrev dktX14_plan_3 : List UInt8 := dkwX14_plan_3 ++ []
def dkwX14_plan_2 : List UInt8 := [180, 0, 13, 17, 0, 210, 27, 96, 42, 180, 0, 19, 27, 46, 79, 132, 1, 1, 167, 255, 226, 42]
abbrev dktX14_plan_2 : List UInt8 := dkwX14_plan_2 ++ dktX14_plan_3
def dkwX14_plan_1 : List UInt8 := [154, 255, 245, 2, 42, 180, 0, 213, 100, 172, 3, 60, 27, 16, 16, 42, 180, 1, 235, 104, 162, 0, 25, 42]
abbrev dktX14_plan_1 : List UInt8 := dkwX14_plan_1 ++ dktX14_plan_2
def dkwX14_plan_0 : List UInt8 := [42, 17, 1, 144, 182, 1, 26, 42, 3, 181, 1, 235, 42, 180, 0, 170, 153, 0, 17, 42, 182, 1, 241]
abbrev dktX14_plan_0 : List UInt8 := dkwX14_plan_0 ++ dktX14_plan_1
theorem dksX14_plan_0 : cX14_plan.data.toList.drop 0 = dktX14_plan_0 := by decide +kernel
theorem dksX14_plan_1 : cX14_plan.data.toList.drop 23 = dktX14_plan_1 := dk_seg dksX14_plan_0 23 rfl rfl
theorem dksX14_plan_2 : cX14_plan.data.toList.drop 47 = dktX14_plan_2 := dk_seg dksX14_plan_1 24 rfl rfl
theorem dksX14_plan_3 : cX14_plan.data.toList.drop 69 = dktX14_plan_3 := dk_seg dksX14_plan_2 22 rfl rfl
theorem dX14_plan_0 : decode cX14_plan 0 = .ok (.aload_n 0, 1) := dk_42 (dk_at dksX14_plan_0 0 rfl rfl)
theorem dX14_plan_1 : decode cX14_plan 1 = .ok (.sipush 400, 3) := dk_17 1 144 (dk_at dksX14_plan_0 1 rfl rfl)
theorem dX14_plan_4 : decode cX14_plan 4 = .ok (.invokevirtual 282, 3) := dk_182 1 26 (dk_at dksX14_plan_0 4 rfl rfl)
theorem dX14_plan_7 : decode cX14_plan 7 = .ok (.aload_n 0, 1) := dk_42 (dk_at dksX14_plan_0 7 rfl rfl)
theorem dX14_plan_8 : decode cX14_plan 8 = .ok (.iconst 0, 1) := dk_3 (dk_at dksX14_plan_0 8 rfl rfl)
theorem dX14_plan_9 : decode cX14_plan 9 = .ok (.putfield 491, 3) := dk_181 1 235 (dk_at dksX14_plan_0 9 rfl rfl)
theorem dX14_plan_12 : decode cX14_plan 12 = .ok (.aload_n 0, 1) := dk_42 (dk_at dksX14_plan_0 12 rfl rfl)
theorem dX14_plan_13 : decode cX14_plan 13 = .ok (.getfield 170, 3) := dk_180 0 170 (dk_at dksX14_plan_0 13 rfl rfl)
theorem dX14_plan_16 : decode cX14_plan 16 = .ok (.ifCond .eq 17, 3) := dk_153 0 17 (dk_at dksX14_plan_0 16 rfl rfl)
theorem dX14_plan_19 : decode cX14_plan 19 = .ok (.aload_n 0, 1) := dk_42 (dk_at dksX14_plan_0 19 rfl rfl)
theorem dX14_plan_20 : decode cX14_plan 20 = .ok (.invokevirtual 497, 3) := dk_182 1 241 (dk_at dksX14_plan_0 20 rfl rfl)
theorem dX14_plan_23 : decode cX14_plan 23 = .ok (.ifCond .ne (-11), 3) := dk_154 255 245 (dk_at dksX14_plan_1 0 rfl rfl)
theorem dX14_plan_26 : decode cX14_plan 26 = .ok (.iconst (-1), 1) := dk_2 (dk_at dksX14_plan_1 3 rfl rfl)
theorem dX14_plan_27 : decode cX14_plan 27 = .ok (.aload_n 0, 1) := dk_42 (dk_at dksX14_plan_1 4 rfl rfl)
theorem dX14_plan_28 : decode cX14_plan 28 = .ok (.getfield 213, 3) := dk_180 0 213 (dk_at dksX14_plan_1 5 rfl rfl)
theorem dX14_plan_31 : decode cX14_plan 31 = .ok (.isub, 1) := dk_100 (dk_at dksX14_plan_1 8 rfl rfl)
theorem dX14_plan_32 : decode cX14_plan 32 = .ok (.ireturn, 1) := dk_172 (dk_at dksX14_plan_1 9 rfl rfl)
theorem dX14_plan_33 : decode cX14_plan 33 = .ok (.iconst 0, 1) := dk_3 (dk_at dksX14_plan_1 10 rfl rfl)
theorem dX14_plan_34 : decode cX14_plan 34 = .ok (.istore_n 1, 1) := dk_60 (dk_at dksX14_plan_1 11 rfl rfl)
theorem dX14_plan_35 : decode cX14_plan 35 = .ok (.iload_n 1, 1) := dk_27 (dk_at dksX14_plan_1 12 rfl rfl)
theorem dX14_plan_36 : decode cX14_plan 36 = .ok (.bipush 16, 2) := dk_16 16 (dk_at dksX14_plan_1 13 rfl rfl)
theorem dX14_plan_38 : decode cX14_plan 38 = .ok (.aload_n 0, 1) := dk_42 (dk_at dksX14_plan_1 15 rfl rfl)
theorem dX14_plan_39 : decode cX14_plan 39 = .ok (.getfield 491, 3) := dk_180 1 235 (dk_at dksX14_plan_1 16 rfl rfl)
theorem dX14_plan_42 : decode cX14_plan 42 = .ok (.imul, 1) := dk_104 (dk_at dksX14_plan_1 19 rfl rfl)
theorem dX14_plan_43 : decode cX14_plan 43 = .ok (.if_icmp .ge 25, 3) := dk_162 0 25 (dk_at dksX14_plan_1 20 rfl rfl)
theorem dX14_plan_46 : decode cX14_plan 46 = .ok (.aload_n 0, 1) := dk_42 (dk_at dksX14_plan_1 23 rfl rfl)
theorem dX14_plan_47 : decode cX14_plan 47 = .ok (.getfield 13, 3) := dk_180 0 13 (dk_at dksX14_plan_2 0 rfl rfl)
theorem dX14_plan_50 : decode cX14_plan 50 = .ok (.sipush 210, 3) := dk_17 0 210 (dk_at dksX14_plan_2 3 rfl rfl)
theorem dX14_plan_53 : decode cX14_plan 53 = .ok (.iload_n 1, 1) := dk_27 (dk_at dksX14_plan_2 6 rfl rfl)
theorem dX14_plan_54 : decode cX14_plan 54 = .ok (.iadd, 1) := dk_96 (dk_at dksX14_plan_2 7 rfl rfl)
theorem dX14_plan_55 : decode cX14_plan 55 = .ok (.aload_n 0, 1) := dk_42 (dk_at dksX14_plan_2 8 rfl rfl)
theorem dX14_plan_56 : decode cX14_plan 56 = .ok (.getfield 19, 3) := dk_180 0 19 (dk_at dksX14_plan_2 9 rfl rfl)
theorem dX14_plan_59 : decode cX14_plan 59 = .ok (.iload_n 1, 1) := dk_27 (dk_at dksX14_plan_2 12 rfl rfl)
theorem dX14_plan_60 : decode cX14_plan 60 = .ok (.iaload, 1) := dk_46 (dk_at dksX14_plan_2 13 rfl rfl)
theorem dX14_plan_61 : decode cX14_plan 61 = .ok (.iastore, 1) := dk_79 (dk_at dksX14_plan_2 14 rfl rfl)
theorem dX14_plan_62 : decode cX14_plan 62 = .ok (.iinc 1 1, 3) := dk_132 1 1 (dk_at dksX14_plan_2 15 rfl rfl)
theorem dX14_plan_65 : decode cX14_plan 65 = .ok (.goto (-30), 3) := dk_167 255 226 (dk_at dksX14_plan_2 18 rfl rfl)
theorem dX14_plan_68 : decode cX14_plan 68 = .ok (.aload_n 0, 1) := dk_42 (dk_at dksX14_plan_2 21 rfl rfl)
theorem dX14_plan_69 : decode cX14_plan 69 = .ok (.getfield 13, 3) := dk_180 0 13 (dk_at dksX14_plan_3 0 rfl rfl)
theorem dX14_plan_72 : decode cX14_plan 72 = .ok (.sipush 200, 3) := dk_17 0 200 (dk_at dksX14_plan_3 3 rfl rfl)
theorem dX14_plan_75 : decode cX14_plan 75 = .ok (.aload_n 0, 1) := dk_42 (dk_at dksX14_plan_3 6 rfl rfl)
theorem dX14_plan_76 : decode cX14_plan 76 = .ok (.getfield 491, 3) := dk_180 1 235 (dk_at dksX14_plan_3 7 rfl rfl)
theorem dX14_plan_79 : decode cX14_plan 79 = .ok (.iastore, 1) := dk_79 (dk_at dksX14_plan_3 10 rfl rfl)
theorem dX14_plan_80 : decode cX14_plan 80 = .ok (.aload_n 0, 1) := dk_42 (dk_at dksX14_plan_3 11 rfl rfl)
theorem dX14_plan_81 : decode cX14_plan 81 = .ok (.getfield 491, 3) := dk_180 1 235 (dk_at dksX14_plan_3 12 rfl rfl)
theorem dX14_plan_84 : decode cX14_plan 84 = .ok (.ireturn, 1) := dk_172 (dk_at dksX14_plan_3 15 rfl rfl)
abbrev cX14_readTold : ByteArray := prog_23_method_96_code
def yX14_readTold : MethodName := ⟨RX14, "readTold", "()Z"⟩
def dkwX14_readTold_10 : List UInt8 := [42, 182, 0, 226, 42, 89, 180, 1, 235, 4, 96, 181, 1, 235, 42, 182, 1, 23, 172]
abbrev dktX14_readTold_10 : List UInt8 := dkwX14_readTold_10 ++ []
def dkwX14_readTold_9 : List UInt8 := [182, 1, 42, 161, 0, 9, 42, 5, 182, 0, 216, 172, 42, 180, 0, 19, 27, 5, 96, 42, 180, 0, 187, 79]
abbrev dktX14_readTold_9 : List UInt8 := dkwX14_readTold_9 ++ dktX14_readTold_10
def dkwX14_readTold_8 : List UInt8 := [16, 18, 160, 0, 17, 42, 42, 180, 0, 187, 182, 1, 192, 154, 0, 23, 167, 0, 14, 42, 180, 0, 187, 42]
abbrev dktX14_readTold_8 : List UInt8 := dkwX14_readTold_8 ++ dktX14_readTold_9
def dkwX14_readTold_7 : List UInt8 := [3, 172, 28, 16, 17, 159, 0, 70, 42, 180, 0, 170, 6, 159, 0, 9, 42, 4, 182, 0, 216, 172, 28]
abbrev dktX14_readTold_7 : List UInt8 := dkwX14_readTold_7 ++ dktX14_readTold_8
def dkwX14_readTold_6 : List UInt8 := [16, 16, 160, 0, 24, 42, 27, 28, 16, 15, 160, 0, 7, 5, 167, 0, 4, 4, 182, 1, 238, 154, 0, 78]
abbrev dktX14_readTold_6 : List UInt8 := dkwX14_readTold_6 ++ dktX14_readTold_7
def dkwX14_readTold_5 : List UInt8 := [42, 180, 0, 19, 27, 4, 96, 28, 16, 15, 100, 79, 42, 182, 0, 226, 28, 16, 15, 159, 0, 9, 28]
abbrev dktX14_readTold_5 : List UInt8 := dkwX14_readTold_5 ++ dktX14_readTold_6
def dkwX14_readTold_4 : List UInt8 := [182, 1, 8, 154, 0, 9, 132, 2, 1, 167, 255, 239, 28, 16, 19, 164, 0, 9, 42, 4, 182, 0, 216, 172]
abbrev dktX14_readTold_4 : List UInt8 := dkwX14_readTold_4 ++ dktX14_readTold_5
def dkwX14_readTold_3 : List UInt8 := [3, 172, 42, 180, 0, 19, 27, 42, 180, 0, 223, 79, 16, 15, 61, 28, 16, 19, 163, 0, 17, 42, 28]
abbrev dktX14_readTold_3 : List UInt8 := dkwX14_readTold_3 ++ dktX14_readTold_4
def dkwX14_readTold_2 : List UInt8 := [154, 0, 7, 3, 167, 0, 12, 42, 180, 0, 19, 27, 16, 16, 100, 46, 16, 59, 182, 0, 251, 154, 0, 5]
abbrev dktX14_readTold_2 : List UInt8 := dkwX14_readTold_2 ++ dktX14_readTold_3
def dkwX14_readTold_1 : List UInt8 := [42, 7, 182, 0, 216, 172, 16, 16, 42, 180, 1, 235, 104, 60, 42, 182, 0, 226, 42, 42, 180, 1, 235]
abbrev dktX14_readTold_1 : List UInt8 := dkwX14_readTold_1 ++ dktX14_readTold_2
def dkwX14_readTold_0 : List UInt8 := [42, 16, 14, 182, 1, 8, 154, 0, 9, 42, 4, 182, 0, 216, 172, 42, 180, 1, 235, 16, 20, 160, 0, 9]
abbrev dktX14_readTold_0 : List UInt8 := dkwX14_readTold_0 ++ dktX14_readTold_1
theorem dksX14_readTold_0 : cX14_readTold.data.toList.drop 0 = dktX14_readTold_0 := by decide +kernel
theorem dksX14_readTold_1 : cX14_readTold.data.toList.drop 24 = dktX14_readTold_1 := dk_seg dksX14_readTold_0 24 rfl rfl
theorem dksX14_readTold_2 : cX14_readTold.data.toList.drop 47 = dktX14_readTold_2 := dk_seg dksX14_readTold_1 23 rfl rfl
theorem dksX14_readTold_3 : cX14_readTold.data.toList.drop 71 = dktX14_readTold_3 := dk_seg dksX14_readTold_2 24 rfl rfl
theorem dksX14_readTold_4 : cX14_readTold.data.toList.drop 94 = dktX14_readTold_4 := dk_seg dksX14_readTold_3 23 rfl rfl
theorem dksX14_readTold_5 : cX14_readTold.data.toList.drop 118 = dktX14_readTold_5 := dk_seg dksX14_readTold_4 24 rfl rfl
theorem dksX14_readTold_6 : cX14_readTold.data.toList.drop 141 = dktX14_readTold_6 := dk_seg dksX14_readTold_5 23 rfl rfl
theorem dksX14_readTold_7 : cX14_readTold.data.toList.drop 165 = dktX14_readTold_7 := dk_seg dksX14_readTold_6 24 rfl rfl
theorem dksX14_readTold_8 : cX14_readTold.data.toList.drop 188 = dktX14_readTold_8 := dk_seg dksX14_readTold_7 23 rfl rfl
theorem dksX14_readTold_9 : cX14_readTold.data.toList.drop 212 = dktX14_readTold_9 := dk_seg dksX14_readTold_8 24 rfl rfl
theorem dksX14_readTold_10 : cX14_readTold.data.toList.drop 236 = dktX14_readTold_10 := dk_seg dksX14_readTold_9 24 rfl rfl
theorem dX14_readTold_0 : decode cX14_readTold 0 = .ok (.aload_n 0, 1) := dk_42 (dk_at dksX14_readTold_0 0 rfl rfl)
theorem dX14_readTold_1 : decode cX14_readTold 1 = .ok (.bipush 14, 2) := dk_16 14 (dk_at dksX14_readTold_0 1 rfl rfl)
theorem dX14_readTold_3 : decode cX14_readTold 3 = .ok (.invokevirtual 264, 3) := dk_182 1 8 (dk_at dksX14_readTold_0 3 rfl rfl)
theorem dX14_readTold_6 : decode cX14_readTold 6 = .ok (.ifCond .ne 9, 3) := dk_154 0 9 (dk_at dksX14_readTold_0 6 rfl rfl)
theorem dX14_readTold_9 : decode cX14_readTold 9 = .ok (.aload_n 0, 1) := dk_42 (dk_at dksX14_readTold_0 9 rfl rfl)
theorem dX14_readTold_10 : decode cX14_readTold 10 = .ok (.iconst 1, 1) := dk_4 (dk_at dksX14_readTold_0 10 rfl rfl)
theorem dX14_readTold_11 : decode cX14_readTold 11 = .ok (.invokevirtual 216, 3) := dk_182 0 216 (dk_at dksX14_readTold_0 11 rfl rfl)
theorem dX14_readTold_14 : decode cX14_readTold 14 = .ok (.ireturn, 1) := dk_172 (dk_at dksX14_readTold_0 14 rfl rfl)
theorem dX14_readTold_15 : decode cX14_readTold 15 = .ok (.aload_n 0, 1) := dk_42 (dk_at dksX14_readTold_0 15 rfl rfl)
theorem dX14_readTold_16 : decode cX14_readTold 16 = .ok (.getfield 491, 3) := dk_180 1 235 (dk_at dksX14_readTold_0 16 rfl rfl)
theorem dX14_readTold_19 : decode cX14_readTold 19 = .ok (.bipush 20, 2) := dk_16 20 (dk_at dksX14_readTold_0 19 rfl rfl)
theorem dX14_readTold_21 : decode cX14_readTold 21 = .ok (.if_icmp .ne 9, 3) := dk_160 0 9 (dk_at dksX14_readTold_0 21 rfl rfl)
theorem dX14_readTold_24 : decode cX14_readTold 24 = .ok (.aload_n 0, 1) := dk_42 (dk_at dksX14_readTold_1 0 rfl rfl)
theorem dX14_readTold_25 : decode cX14_readTold 25 = .ok (.iconst 4, 1) := dk_7 (dk_at dksX14_readTold_1 1 rfl rfl)
theorem dX14_readTold_26 : decode cX14_readTold 26 = .ok (.invokevirtual 216, 3) := dk_182 0 216 (dk_at dksX14_readTold_1 2 rfl rfl)
theorem dX14_readTold_29 : decode cX14_readTold 29 = .ok (.ireturn, 1) := dk_172 (dk_at dksX14_readTold_1 5 rfl rfl)
theorem dX14_readTold_30 : decode cX14_readTold 30 = .ok (.bipush 16, 2) := dk_16 16 (dk_at dksX14_readTold_1 6 rfl rfl)
theorem dX14_readTold_32 : decode cX14_readTold 32 = .ok (.aload_n 0, 1) := dk_42 (dk_at dksX14_readTold_1 8 rfl rfl)
theorem dX14_readTold_33 : decode cX14_readTold 33 = .ok (.getfield 491, 3) := dk_180 1 235 (dk_at dksX14_readTold_1 9 rfl rfl)
theorem dX14_readTold_36 : decode cX14_readTold 36 = .ok (.imul, 1) := dk_104 (dk_at dksX14_readTold_1 12 rfl rfl)
theorem dX14_readTold_37 : decode cX14_readTold 37 = .ok (.istore_n 1, 1) := dk_60 (dk_at dksX14_readTold_1 13 rfl rfl)
theorem dX14_readTold_38 : decode cX14_readTold 38 = .ok (.aload_n 0, 1) := dk_42 (dk_at dksX14_readTold_1 14 rfl rfl)
theorem dX14_readTold_39 : decode cX14_readTold 39 = .ok (.invokevirtual 226, 3) := dk_182 0 226 (dk_at dksX14_readTold_1 15 rfl rfl)
theorem dX14_readTold_42 : decode cX14_readTold 42 = .ok (.aload_n 0, 1) := dk_42 (dk_at dksX14_readTold_1 18 rfl rfl)
theorem dX14_readTold_43 : decode cX14_readTold 43 = .ok (.aload_n 0, 1) := dk_42 (dk_at dksX14_readTold_1 19 rfl rfl)
theorem dX14_readTold_44 : decode cX14_readTold 44 = .ok (.getfield 491, 3) := dk_180 1 235 (dk_at dksX14_readTold_1 20 rfl rfl)
theorem dX14_readTold_47 : decode cX14_readTold 47 = .ok (.ifCond .ne 7, 3) := dk_154 0 7 (dk_at dksX14_readTold_2 0 rfl rfl)
theorem dX14_readTold_50 : decode cX14_readTold 50 = .ok (.iconst 0, 1) := dk_3 (dk_at dksX14_readTold_2 3 rfl rfl)
theorem dX14_readTold_51 : decode cX14_readTold 51 = .ok (.goto 12, 3) := dk_167 0 12 (dk_at dksX14_readTold_2 4 rfl rfl)
theorem dX14_readTold_54 : decode cX14_readTold 54 = .ok (.aload_n 0, 1) := dk_42 (dk_at dksX14_readTold_2 7 rfl rfl)
theorem dX14_readTold_55 : decode cX14_readTold 55 = .ok (.getfield 19, 3) := dk_180 0 19 (dk_at dksX14_readTold_2 8 rfl rfl)
theorem dX14_readTold_58 : decode cX14_readTold 58 = .ok (.iload_n 1, 1) := dk_27 (dk_at dksX14_readTold_2 11 rfl rfl)
theorem dX14_readTold_59 : decode cX14_readTold 59 = .ok (.bipush 16, 2) := dk_16 16 (dk_at dksX14_readTold_2 12 rfl rfl)
theorem dX14_readTold_61 : decode cX14_readTold 61 = .ok (.isub, 1) := dk_100 (dk_at dksX14_readTold_2 14 rfl rfl)
theorem dX14_readTold_62 : decode cX14_readTold 62 = .ok (.iaload, 1) := dk_46 (dk_at dksX14_readTold_2 15 rfl rfl)
theorem dX14_readTold_63 : decode cX14_readTold 63 = .ok (.bipush 59, 2) := dk_16 59 (dk_at dksX14_readTold_2 16 rfl rfl)
theorem dX14_readTold_65 : decode cX14_readTold 65 = .ok (.invokevirtual 251, 3) := dk_182 0 251 (dk_at dksX14_readTold_2 18 rfl rfl)
theorem dX14_readTold_68 : decode cX14_readTold 68 = .ok (.ifCond .ne 5, 3) := dk_154 0 5 (dk_at dksX14_readTold_2 21 rfl rfl)
theorem dX14_readTold_71 : decode cX14_readTold 71 = .ok (.iconst 0, 1) := dk_3 (dk_at dksX14_readTold_3 0 rfl rfl)
theorem dX14_readTold_72 : decode cX14_readTold 72 = .ok (.ireturn, 1) := dk_172 (dk_at dksX14_readTold_3 1 rfl rfl)
theorem dX14_readTold_73 : decode cX14_readTold 73 = .ok (.aload_n 0, 1) := dk_42 (dk_at dksX14_readTold_3 2 rfl rfl)
theorem dX14_readTold_74 : decode cX14_readTold 74 = .ok (.getfield 19, 3) := dk_180 0 19 (dk_at dksX14_readTold_3 3 rfl rfl)
theorem dX14_readTold_77 : decode cX14_readTold 77 = .ok (.iload_n 1, 1) := dk_27 (dk_at dksX14_readTold_3 6 rfl rfl)
theorem dX14_readTold_78 : decode cX14_readTold 78 = .ok (.aload_n 0, 1) := dk_42 (dk_at dksX14_readTold_3 7 rfl rfl)
theorem dX14_readTold_79 : decode cX14_readTold 79 = .ok (.getfield 223, 3) := dk_180 0 223 (dk_at dksX14_readTold_3 8 rfl rfl)
theorem dX14_readTold_82 : decode cX14_readTold 82 = .ok (.iastore, 1) := dk_79 (dk_at dksX14_readTold_3 11 rfl rfl)
theorem dX14_readTold_83 : decode cX14_readTold 83 = .ok (.bipush 15, 2) := dk_16 15 (dk_at dksX14_readTold_3 12 rfl rfl)
theorem dX14_readTold_85 : decode cX14_readTold 85 = .ok (.istore_n 2, 1) := dk_61 (dk_at dksX14_readTold_3 14 rfl rfl)
theorem dX14_readTold_86 : decode cX14_readTold 86 = .ok (.iload_n 2, 1) := dk_28 (dk_at dksX14_readTold_3 15 rfl rfl)
theorem dX14_readTold_87 : decode cX14_readTold 87 = .ok (.bipush 19, 2) := dk_16 19 (dk_at dksX14_readTold_3 16 rfl rfl)
theorem dX14_readTold_89 : decode cX14_readTold 89 = .ok (.if_icmp .gt 17, 3) := dk_163 0 17 (dk_at dksX14_readTold_3 18 rfl rfl)
theorem dX14_readTold_92 : decode cX14_readTold 92 = .ok (.aload_n 0, 1) := dk_42 (dk_at dksX14_readTold_3 21 rfl rfl)
theorem dX14_readTold_93 : decode cX14_readTold 93 = .ok (.iload_n 2, 1) := dk_28 (dk_at dksX14_readTold_3 22 rfl rfl)
theorem dX14_readTold_94 : decode cX14_readTold 94 = .ok (.invokevirtual 264, 3) := dk_182 1 8 (dk_at dksX14_readTold_4 0 rfl rfl)
theorem dX14_readTold_97 : decode cX14_readTold 97 = .ok (.ifCond .ne 9, 3) := dk_154 0 9 (dk_at dksX14_readTold_4 3 rfl rfl)
theorem dX14_readTold_100 : decode cX14_readTold 100 = .ok (.iinc 2 1, 3) := dk_132 2 1 (dk_at dksX14_readTold_4 6 rfl rfl)
theorem dX14_readTold_103 : decode cX14_readTold 103 = .ok (.goto (-17), 3) := dk_167 255 239 (dk_at dksX14_readTold_4 9 rfl rfl)
theorem dX14_readTold_106 : decode cX14_readTold 106 = .ok (.iload_n 2, 1) := dk_28 (dk_at dksX14_readTold_4 12 rfl rfl)
theorem dX14_readTold_107 : decode cX14_readTold 107 = .ok (.bipush 19, 2) := dk_16 19 (dk_at dksX14_readTold_4 13 rfl rfl)
theorem dX14_readTold_109 : decode cX14_readTold 109 = .ok (.if_icmp .le 9, 3) := dk_164 0 9 (dk_at dksX14_readTold_4 15 rfl rfl)
theorem dX14_readTold_112 : decode cX14_readTold 112 = .ok (.aload_n 0, 1) := dk_42 (dk_at dksX14_readTold_4 18 rfl rfl)
theorem dX14_readTold_113 : decode cX14_readTold 113 = .ok (.iconst 1, 1) := dk_4 (dk_at dksX14_readTold_4 19 rfl rfl)
theorem dX14_readTold_114 : decode cX14_readTold 114 = .ok (.invokevirtual 216, 3) := dk_182 0 216 (dk_at dksX14_readTold_4 20 rfl rfl)
theorem dX14_readTold_117 : decode cX14_readTold 117 = .ok (.ireturn, 1) := dk_172 (dk_at dksX14_readTold_4 23 rfl rfl)
theorem dX14_readTold_118 : decode cX14_readTold 118 = .ok (.aload_n 0, 1) := dk_42 (dk_at dksX14_readTold_5 0 rfl rfl)
theorem dX14_readTold_119 : decode cX14_readTold 119 = .ok (.getfield 19, 3) := dk_180 0 19 (dk_at dksX14_readTold_5 1 rfl rfl)
theorem dX14_readTold_122 : decode cX14_readTold 122 = .ok (.iload_n 1, 1) := dk_27 (dk_at dksX14_readTold_5 4 rfl rfl)
theorem dX14_readTold_123 : decode cX14_readTold 123 = .ok (.iconst 1, 1) := dk_4 (dk_at dksX14_readTold_5 5 rfl rfl)
theorem dX14_readTold_124 : decode cX14_readTold 124 = .ok (.iadd, 1) := dk_96 (dk_at dksX14_readTold_5 6 rfl rfl)
theorem dX14_readTold_125 : decode cX14_readTold 125 = .ok (.iload_n 2, 1) := dk_28 (dk_at dksX14_readTold_5 7 rfl rfl)
theorem dX14_readTold_126 : decode cX14_readTold 126 = .ok (.bipush 15, 2) := dk_16 15 (dk_at dksX14_readTold_5 8 rfl rfl)
theorem dX14_readTold_128 : decode cX14_readTold 128 = .ok (.isub, 1) := dk_100 (dk_at dksX14_readTold_5 10 rfl rfl)
theorem dX14_readTold_129 : decode cX14_readTold 129 = .ok (.iastore, 1) := dk_79 (dk_at dksX14_readTold_5 11 rfl rfl)
theorem dX14_readTold_130 : decode cX14_readTold 130 = .ok (.aload_n 0, 1) := dk_42 (dk_at dksX14_readTold_5 12 rfl rfl)
theorem dX14_readTold_131 : decode cX14_readTold 131 = .ok (.invokevirtual 226, 3) := dk_182 0 226 (dk_at dksX14_readTold_5 13 rfl rfl)
theorem dX14_readTold_134 : decode cX14_readTold 134 = .ok (.iload_n 2, 1) := dk_28 (dk_at dksX14_readTold_5 16 rfl rfl)
theorem dX14_readTold_135 : decode cX14_readTold 135 = .ok (.bipush 15, 2) := dk_16 15 (dk_at dksX14_readTold_5 17 rfl rfl)
theorem dX14_readTold_137 : decode cX14_readTold 137 = .ok (.if_icmp .eq 9, 3) := dk_159 0 9 (dk_at dksX14_readTold_5 19 rfl rfl)
theorem dX14_readTold_140 : decode cX14_readTold 140 = .ok (.iload_n 2, 1) := dk_28 (dk_at dksX14_readTold_5 22 rfl rfl)
theorem dX14_readTold_141 : decode cX14_readTold 141 = .ok (.bipush 16, 2) := dk_16 16 (dk_at dksX14_readTold_6 0 rfl rfl)
theorem dX14_readTold_143 : decode cX14_readTold 143 = .ok (.if_icmp .ne 24, 3) := dk_160 0 24 (dk_at dksX14_readTold_6 2 rfl rfl)
theorem dX14_readTold_146 : decode cX14_readTold 146 = .ok (.aload_n 0, 1) := dk_42 (dk_at dksX14_readTold_6 5 rfl rfl)
theorem dX14_readTold_147 : decode cX14_readTold 147 = .ok (.iload_n 1, 1) := dk_27 (dk_at dksX14_readTold_6 6 rfl rfl)
theorem dX14_readTold_148 : decode cX14_readTold 148 = .ok (.iload_n 2, 1) := dk_28 (dk_at dksX14_readTold_6 7 rfl rfl)
theorem dX14_readTold_149 : decode cX14_readTold 149 = .ok (.bipush 15, 2) := dk_16 15 (dk_at dksX14_readTold_6 8 rfl rfl)
theorem dX14_readTold_151 : decode cX14_readTold 151 = .ok (.if_icmp .ne 7, 3) := dk_160 0 7 (dk_at dksX14_readTold_6 10 rfl rfl)
theorem dX14_readTold_154 : decode cX14_readTold 154 = .ok (.iconst 2, 1) := dk_5 (dk_at dksX14_readTold_6 13 rfl rfl)
theorem dX14_readTold_155 : decode cX14_readTold 155 = .ok (.goto 4, 3) := dk_167 0 4 (dk_at dksX14_readTold_6 14 rfl rfl)
theorem dX14_readTold_158 : decode cX14_readTold 158 = .ok (.iconst 1, 1) := dk_4 (dk_at dksX14_readTold_6 17 rfl rfl)
theorem dX14_readTold_159 : decode cX14_readTold 159 = .ok (.invokevirtual 494, 3) := dk_182 1 238 (dk_at dksX14_readTold_6 18 rfl rfl)
theorem dX14_readTold_162 : decode cX14_readTold 162 = .ok (.ifCond .ne 78, 3) := dk_154 0 78 (dk_at dksX14_readTold_6 21 rfl rfl)
theorem dX14_readTold_165 : decode cX14_readTold 165 = .ok (.iconst 0, 1) := dk_3 (dk_at dksX14_readTold_7 0 rfl rfl)
theorem dX14_readTold_166 : decode cX14_readTold 166 = .ok (.ireturn, 1) := dk_172 (dk_at dksX14_readTold_7 1 rfl rfl)
theorem dX14_readTold_167 : decode cX14_readTold 167 = .ok (.iload_n 2, 1) := dk_28 (dk_at dksX14_readTold_7 2 rfl rfl)
theorem dX14_readTold_168 : decode cX14_readTold 168 = .ok (.bipush 17, 2) := dk_16 17 (dk_at dksX14_readTold_7 3 rfl rfl)
theorem dX14_readTold_170 : decode cX14_readTold 170 = .ok (.if_icmp .eq 70, 3) := dk_159 0 70 (dk_at dksX14_readTold_7 5 rfl rfl)
theorem dX14_readTold_173 : decode cX14_readTold 173 = .ok (.aload_n 0, 1) := dk_42 (dk_at dksX14_readTold_7 8 rfl rfl)
theorem dX14_readTold_174 : decode cX14_readTold 174 = .ok (.getfield 170, 3) := dk_180 0 170 (dk_at dksX14_readTold_7 9 rfl rfl)
theorem dX14_readTold_177 : decode cX14_readTold 177 = .ok (.iconst 3, 1) := dk_6 (dk_at dksX14_readTold_7 12 rfl rfl)
theorem dX14_readTold_178 : decode cX14_readTold 178 = .ok (.if_icmp .eq 9, 3) := dk_159 0 9 (dk_at dksX14_readTold_7 13 rfl rfl)
theorem dX14_readTold_181 : decode cX14_readTold 181 = .ok (.aload_n 0, 1) := dk_42 (dk_at dksX14_readTold_7 16 rfl rfl)
theorem dX14_readTold_182 : decode cX14_readTold 182 = .ok (.iconst 1, 1) := dk_4 (dk_at dksX14_readTold_7 17 rfl rfl)
theorem dX14_readTold_183 : decode cX14_readTold 183 = .ok (.invokevirtual 216, 3) := dk_182 0 216 (dk_at dksX14_readTold_7 18 rfl rfl)
theorem dX14_readTold_186 : decode cX14_readTold 186 = .ok (.ireturn, 1) := dk_172 (dk_at dksX14_readTold_7 21 rfl rfl)
theorem dX14_readTold_187 : decode cX14_readTold 187 = .ok (.iload_n 2, 1) := dk_28 (dk_at dksX14_readTold_7 22 rfl rfl)
theorem dX14_readTold_188 : decode cX14_readTold 188 = .ok (.bipush 18, 2) := dk_16 18 (dk_at dksX14_readTold_8 0 rfl rfl)
theorem dX14_readTold_190 : decode cX14_readTold 190 = .ok (.if_icmp .ne 17, 3) := dk_160 0 17 (dk_at dksX14_readTold_8 2 rfl rfl)
theorem dX14_readTold_193 : decode cX14_readTold 193 = .ok (.aload_n 0, 1) := dk_42 (dk_at dksX14_readTold_8 5 rfl rfl)
theorem dX14_readTold_194 : decode cX14_readTold 194 = .ok (.aload_n 0, 1) := dk_42 (dk_at dksX14_readTold_8 6 rfl rfl)
theorem dX14_readTold_195 : decode cX14_readTold 195 = .ok (.getfield 187, 3) := dk_180 0 187 (dk_at dksX14_readTold_8 7 rfl rfl)
theorem dX14_readTold_198 : decode cX14_readTold 198 = .ok (.invokevirtual 448, 3) := dk_182 1 192 (dk_at dksX14_readTold_8 10 rfl rfl)
theorem dX14_readTold_201 : decode cX14_readTold 201 = .ok (.ifCond .ne 23, 3) := dk_154 0 23 (dk_at dksX14_readTold_8 13 rfl rfl)
theorem dX14_readTold_204 : decode cX14_readTold 204 = .ok (.goto 14, 3) := dk_167 0 14 (dk_at dksX14_readTold_8 16 rfl rfl)
theorem dX14_readTold_207 : decode cX14_readTold 207 = .ok (.aload_n 0, 1) := dk_42 (dk_at dksX14_readTold_8 19 rfl rfl)
theorem dX14_readTold_208 : decode cX14_readTold 208 = .ok (.getfield 187, 3) := dk_180 0 187 (dk_at dksX14_readTold_8 20 rfl rfl)
theorem dX14_readTold_211 : decode cX14_readTold 211 = .ok (.aload_n 0, 1) := dk_42 (dk_at dksX14_readTold_8 23 rfl rfl)
theorem dX14_readTold_212 : decode cX14_readTold 212 = .ok (.invokevirtual 298, 3) := dk_182 1 42 (dk_at dksX14_readTold_9 0 rfl rfl)
theorem dX14_readTold_215 : decode cX14_readTold 215 = .ok (.if_icmp .lt 9, 3) := dk_161 0 9 (dk_at dksX14_readTold_9 3 rfl rfl)
theorem dX14_readTold_218 : decode cX14_readTold 218 = .ok (.aload_n 0, 1) := dk_42 (dk_at dksX14_readTold_9 6 rfl rfl)
theorem dX14_readTold_219 : decode cX14_readTold 219 = .ok (.iconst 2, 1) := dk_5 (dk_at dksX14_readTold_9 7 rfl rfl)
theorem dX14_readTold_220 : decode cX14_readTold 220 = .ok (.invokevirtual 216, 3) := dk_182 0 216 (dk_at dksX14_readTold_9 8 rfl rfl)
theorem dX14_readTold_223 : decode cX14_readTold 223 = .ok (.ireturn, 1) := dk_172 (dk_at dksX14_readTold_9 11 rfl rfl)
theorem dX14_readTold_224 : decode cX14_readTold 224 = .ok (.aload_n 0, 1) := dk_42 (dk_at dksX14_readTold_9 12 rfl rfl)
theorem dX14_readTold_225 : decode cX14_readTold 225 = .ok (.getfield 19, 3) := dk_180 0 19 (dk_at dksX14_readTold_9 13 rfl rfl)
theorem dX14_readTold_228 : decode cX14_readTold 228 = .ok (.iload_n 1, 1) := dk_27 (dk_at dksX14_readTold_9 16 rfl rfl)
theorem dX14_readTold_229 : decode cX14_readTold 229 = .ok (.iconst 2, 1) := dk_5 (dk_at dksX14_readTold_9 17 rfl rfl)
theorem dX14_readTold_230 : decode cX14_readTold 230 = .ok (.iadd, 1) := dk_96 (dk_at dksX14_readTold_9 18 rfl rfl)
theorem dX14_readTold_231 : decode cX14_readTold 231 = .ok (.aload_n 0, 1) := dk_42 (dk_at dksX14_readTold_9 19 rfl rfl)
theorem dX14_readTold_232 : decode cX14_readTold 232 = .ok (.getfield 187, 3) := dk_180 0 187 (dk_at dksX14_readTold_9 20 rfl rfl)
theorem dX14_readTold_235 : decode cX14_readTold 235 = .ok (.iastore, 1) := dk_79 (dk_at dksX14_readTold_9 23 rfl rfl)
theorem dX14_readTold_236 : decode cX14_readTold 236 = .ok (.aload_n 0, 1) := dk_42 (dk_at dksX14_readTold_10 0 rfl rfl)
theorem dX14_readTold_237 : decode cX14_readTold 237 = .ok (.invokevirtual 226, 3) := dk_182 0 226 (dk_at dksX14_readTold_10 1 rfl rfl)
theorem dX14_readTold_240 : decode cX14_readTold 240 = .ok (.aload_n 0, 1) := dk_42 (dk_at dksX14_readTold_10 4 rfl rfl)
theorem dX14_readTold_241 : decode cX14_readTold 241 = .ok (.dup, 1) := dk_89 (dk_at dksX14_readTold_10 5 rfl rfl)
theorem dX14_readTold_242 : decode cX14_readTold 242 = .ok (.getfield 491, 3) := dk_180 1 235 (dk_at dksX14_readTold_10 6 rfl rfl)
theorem dX14_readTold_245 : decode cX14_readTold 245 = .ok (.iconst 1, 1) := dk_4 (dk_at dksX14_readTold_10 9 rfl rfl)
theorem dX14_readTold_246 : decode cX14_readTold 246 = .ok (.iadd, 1) := dk_96 (dk_at dksX14_readTold_10 10 rfl rfl)
theorem dX14_readTold_247 : decode cX14_readTold 247 = .ok (.putfield 491, 3) := dk_181 1 235 (dk_at dksX14_readTold_10 11 rfl rfl)
theorem dX14_readTold_250 : decode cX14_readTold 250 = .ok (.aload_n 0, 1) := dk_42 (dk_at dksX14_readTold_10 14 rfl rfl)
theorem dX14_readTold_251 : decode cX14_readTold 251 = .ok (.invokevirtual 279, 3) := dk_182 1 23 (dk_at dksX14_readTold_10 15 rfl rfl)
theorem dX14_readTold_254 : decode cX14_readTold 254 = .ok (.ireturn, 1) := dk_172 (dk_at dksX14_readTold_10 18 rfl rfl)
abbrev cX14_readMen : ByteArray := prog_23_method_95_code
def yX14_readMen : MethodName := ⟨RX14, "readMen", "(II)Z"⟩
def dkwX14_readMen_4 : List UInt8 := [96, 21, 4, 79, 4, 172]
abbrev dktX14_readMen_4 : List UInt8 := dkwX14_readMen_4 ++ []
def dkwX14_readMen_3 : List UInt8 := [6, 96, 21, 4, 96, 21, 5, 79, 132, 4, 1, 42, 182, 0, 226, 167, 255, 175, 42, 180, 0, 19, 27, 5]
abbrev dktX14_readMen_3 : List UInt8 := dkwX14_readMen_3 ++ dktX14_readMen_4
def dkwX14_readMen_2 : List UInt8 := [184, 1, 2, 153, 0, 9, 42, 6, 182, 0, 216, 172, 29, 4, 21, 5, 120, 128, 62, 42, 180, 0, 19, 27]
abbrev dktX14_readMen_2 : List UInt8 := dkwX14_readMen_2 ++ dktX14_readMen_3
def dkwX14_readMen_1 : List UInt8 := [154, 0, 9, 42, 4, 182, 0, 216, 172, 42, 182, 1, 232, 54, 5, 21, 5, 2, 159, 0, 12, 29, 21, 5]
abbrev dktX14_readMen_1 : List UInt8 := dkwX14_readMen_1 ++ dktX14_readMen_2
def dkwX14_readMen_0 : List UInt8 := [3, 62, 3, 54, 4, 21, 4, 28, 161, 0, 11, 42, 180, 0, 170, 5, 160, 0, 73, 42, 182, 0, 247]
abbrev dktX14_readMen_0 : List UInt8 := dkwX14_readMen_0 ++ dktX14_readMen_1
theorem dksX14_readMen_0 : cX14_readMen.data.toList.drop 0 = dktX14_readMen_0 := by decide +kernel
theorem dksX14_readMen_1 : cX14_readMen.data.toList.drop 23 = dktX14_readMen_1 := dk_seg dksX14_readMen_0 23 rfl rfl
theorem dksX14_readMen_2 : cX14_readMen.data.toList.drop 47 = dktX14_readMen_2 := dk_seg dksX14_readMen_1 24 rfl rfl
theorem dksX14_readMen_3 : cX14_readMen.data.toList.drop 71 = dktX14_readMen_3 := dk_seg dksX14_readMen_2 24 rfl rfl
theorem dksX14_readMen_4 : cX14_readMen.data.toList.drop 95 = dktX14_readMen_4 := dk_seg dksX14_readMen_3 24 rfl rfl
theorem dX14_readMen_0 : decode cX14_readMen 0 = .ok (.iconst 0, 1) := dk_3 (dk_at dksX14_readMen_0 0 rfl rfl)
theorem dX14_readMen_1 : decode cX14_readMen 1 = .ok (.istore_n 3, 1) := dk_62 (dk_at dksX14_readMen_0 1 rfl rfl)
theorem dX14_readMen_2 : decode cX14_readMen 2 = .ok (.iconst 0, 1) := dk_3 (dk_at dksX14_readMen_0 2 rfl rfl)
theorem dX14_readMen_3 : decode cX14_readMen 3 = .ok (.istore 4, 2) := dk_54 4 (dk_at dksX14_readMen_0 3 rfl rfl)
theorem dX14_readMen_5 : decode cX14_readMen 5 = .ok (.iload 4, 2) := dk_21 4 (dk_at dksX14_readMen_0 5 rfl rfl)
theorem dX14_readMen_7 : decode cX14_readMen 7 = .ok (.iload_n 2, 1) := dk_28 (dk_at dksX14_readMen_0 7 rfl rfl)
theorem dX14_readMen_8 : decode cX14_readMen 8 = .ok (.if_icmp .lt 11, 3) := dk_161 0 11 (dk_at dksX14_readMen_0 8 rfl rfl)
theorem dX14_readMen_11 : decode cX14_readMen 11 = .ok (.aload_n 0, 1) := dk_42 (dk_at dksX14_readMen_0 11 rfl rfl)
theorem dX14_readMen_12 : decode cX14_readMen 12 = .ok (.getfield 170, 3) := dk_180 0 170 (dk_at dksX14_readMen_0 12 rfl rfl)
theorem dX14_readMen_15 : decode cX14_readMen 15 = .ok (.iconst 2, 1) := dk_5 (dk_at dksX14_readMen_0 15 rfl rfl)
theorem dX14_readMen_16 : decode cX14_readMen 16 = .ok (.if_icmp .ne 73, 3) := dk_160 0 73 (dk_at dksX14_readMen_0 16 rfl rfl)
theorem dX14_readMen_19 : decode cX14_readMen 19 = .ok (.aload_n 0, 1) := dk_42 (dk_at dksX14_readMen_0 19 rfl rfl)
theorem dX14_readMen_20 : decode cX14_readMen 20 = .ok (.invokevirtual 247, 3) := dk_182 0 247 (dk_at dksX14_readMen_0 20 rfl rfl)
theorem dX14_readMen_23 : decode cX14_readMen 23 = .ok (.ifCond .ne 9, 3) := dk_154 0 9 (dk_at dksX14_readMen_1 0 rfl rfl)
theorem dX14_readMen_26 : decode cX14_readMen 26 = .ok (.aload_n 0, 1) := dk_42 (dk_at dksX14_readMen_1 3 rfl rfl)
theorem dX14_readMen_27 : decode cX14_readMen 27 = .ok (.iconst 1, 1) := dk_4 (dk_at dksX14_readMen_1 4 rfl rfl)
theorem dX14_readMen_28 : decode cX14_readMen 28 = .ok (.invokevirtual 216, 3) := dk_182 0 216 (dk_at dksX14_readMen_1 5 rfl rfl)
theorem dX14_readMen_31 : decode cX14_readMen 31 = .ok (.ireturn, 1) := dk_172 (dk_at dksX14_readMen_1 8 rfl rfl)
theorem dX14_readMen_32 : decode cX14_readMen 32 = .ok (.aload_n 0, 1) := dk_42 (dk_at dksX14_readMen_1 9 rfl rfl)
theorem dX14_readMen_33 : decode cX14_readMen 33 = .ok (.invokevirtual 488, 3) := dk_182 1 232 (dk_at dksX14_readMen_1 10 rfl rfl)
theorem dX14_readMen_36 : decode cX14_readMen 36 = .ok (.istore 5, 2) := dk_54 5 (dk_at dksX14_readMen_1 13 rfl rfl)
theorem dX14_readMen_38 : decode cX14_readMen 38 = .ok (.iload 5, 2) := dk_21 5 (dk_at dksX14_readMen_1 15 rfl rfl)
theorem dX14_readMen_40 : decode cX14_readMen 40 = .ok (.iconst (-1), 1) := dk_2 (dk_at dksX14_readMen_1 17 rfl rfl)
theorem dX14_readMen_41 : decode cX14_readMen 41 = .ok (.if_icmp .eq 12, 3) := dk_159 0 12 (dk_at dksX14_readMen_1 18 rfl rfl)
theorem dX14_readMen_44 : decode cX14_readMen 44 = .ok (.iload_n 3, 1) := dk_29 (dk_at dksX14_readMen_1 21 rfl rfl)
theorem dX14_readMen_45 : decode cX14_readMen 45 = .ok (.iload 5, 2) := dk_21 5 (dk_at dksX14_readMen_1 22 rfl rfl)
theorem dX14_readMen_47 : decode cX14_readMen 47 = .ok (.invokestatic 258, 3) := dk_184 1 2 (dk_at dksX14_readMen_2 0 rfl rfl)
theorem dX14_readMen_50 : decode cX14_readMen 50 = .ok (.ifCond .eq 9, 3) := dk_153 0 9 (dk_at dksX14_readMen_2 3 rfl rfl)
theorem dX14_readMen_53 : decode cX14_readMen 53 = .ok (.aload_n 0, 1) := dk_42 (dk_at dksX14_readMen_2 6 rfl rfl)
theorem dX14_readMen_54 : decode cX14_readMen 54 = .ok (.iconst 3, 1) := dk_6 (dk_at dksX14_readMen_2 7 rfl rfl)
theorem dX14_readMen_55 : decode cX14_readMen 55 = .ok (.invokevirtual 216, 3) := dk_182 0 216 (dk_at dksX14_readMen_2 8 rfl rfl)
theorem dX14_readMen_58 : decode cX14_readMen 58 = .ok (.ireturn, 1) := dk_172 (dk_at dksX14_readMen_2 11 rfl rfl)
theorem dX14_readMen_59 : decode cX14_readMen 59 = .ok (.iload_n 3, 1) := dk_29 (dk_at dksX14_readMen_2 12 rfl rfl)
theorem dX14_readMen_60 : decode cX14_readMen 60 = .ok (.iconst 1, 1) := dk_4 (dk_at dksX14_readMen_2 13 rfl rfl)
theorem dX14_readMen_61 : decode cX14_readMen 61 = .ok (.iload 5, 2) := dk_21 5 (dk_at dksX14_readMen_2 14 rfl rfl)
theorem dX14_readMen_63 : decode cX14_readMen 63 = .ok (.ishl, 1) := dk_120 (dk_at dksX14_readMen_2 16 rfl rfl)
theorem dX14_readMen_64 : decode cX14_readMen 64 = .ok (.ior, 1) := dk_128 (dk_at dksX14_readMen_2 17 rfl rfl)
theorem dX14_readMen_65 : decode cX14_readMen 65 = .ok (.istore_n 3, 1) := dk_62 (dk_at dksX14_readMen_2 18 rfl rfl)
theorem dX14_readMen_66 : decode cX14_readMen 66 = .ok (.aload_n 0, 1) := dk_42 (dk_at dksX14_readMen_2 19 rfl rfl)
theorem dX14_readMen_67 : decode cX14_readMen 67 = .ok (.getfield 19, 3) := dk_180 0 19 (dk_at dksX14_readMen_2 20 rfl rfl)
theorem dX14_readMen_70 : decode cX14_readMen 70 = .ok (.iload_n 1, 1) := dk_27 (dk_at dksX14_readMen_2 23 rfl rfl)
theorem dX14_readMen_71 : decode cX14_readMen 71 = .ok (.iconst 3, 1) := dk_6 (dk_at dksX14_readMen_3 0 rfl rfl)
theorem dX14_readMen_72 : decode cX14_readMen 72 = .ok (.iadd, 1) := dk_96 (dk_at dksX14_readMen_3 1 rfl rfl)
theorem dX14_readMen_73 : decode cX14_readMen 73 = .ok (.iload 4, 2) := dk_21 4 (dk_at dksX14_readMen_3 2 rfl rfl)
theorem dX14_readMen_75 : decode cX14_readMen 75 = .ok (.iadd, 1) := dk_96 (dk_at dksX14_readMen_3 4 rfl rfl)
theorem dX14_readMen_76 : decode cX14_readMen 76 = .ok (.iload 5, 2) := dk_21 5 (dk_at dksX14_readMen_3 5 rfl rfl)
theorem dX14_readMen_78 : decode cX14_readMen 78 = .ok (.iastore, 1) := dk_79 (dk_at dksX14_readMen_3 7 rfl rfl)
theorem dX14_readMen_79 : decode cX14_readMen 79 = .ok (.iinc 4 1, 3) := dk_132 4 1 (dk_at dksX14_readMen_3 8 rfl rfl)
theorem dX14_readMen_82 : decode cX14_readMen 82 = .ok (.aload_n 0, 1) := dk_42 (dk_at dksX14_readMen_3 11 rfl rfl)
theorem dX14_readMen_83 : decode cX14_readMen 83 = .ok (.invokevirtual 226, 3) := dk_182 0 226 (dk_at dksX14_readMen_3 12 rfl rfl)
theorem dX14_readMen_86 : decode cX14_readMen 86 = .ok (.goto (-81), 3) := dk_167 255 175 (dk_at dksX14_readMen_3 15 rfl rfl)
theorem dX14_readMen_89 : decode cX14_readMen 89 = .ok (.aload_n 0, 1) := dk_42 (dk_at dksX14_readMen_3 18 rfl rfl)
theorem dX14_readMen_90 : decode cX14_readMen 90 = .ok (.getfield 19, 3) := dk_180 0 19 (dk_at dksX14_readMen_3 19 rfl rfl)
theorem dX14_readMen_93 : decode cX14_readMen 93 = .ok (.iload_n 1, 1) := dk_27 (dk_at dksX14_readMen_3 22 rfl rfl)
theorem dX14_readMen_94 : decode cX14_readMen 94 = .ok (.iconst 2, 1) := dk_5 (dk_at dksX14_readMen_3 23 rfl rfl)
theorem dX14_readMen_95 : decode cX14_readMen 95 = .ok (.iadd, 1) := dk_96 (dk_at dksX14_readMen_4 0 rfl rfl)
theorem dX14_readMen_96 : decode cX14_readMen 96 = .ok (.iload 4, 2) := dk_21 4 (dk_at dksX14_readMen_4 1 rfl rfl)
theorem dX14_readMen_98 : decode cX14_readMen 98 = .ok (.iastore, 1) := dk_79 (dk_at dksX14_readMen_4 3 rfl rfl)
theorem dX14_readMen_99 : decode cX14_readMen 99 = .ok (.iconst 1, 1) := dk_4 (dk_at dksX14_readMen_4 4 rfl rfl)
theorem dX14_readMen_100 : decode cX14_readMen 100 = .ok (.ireturn, 1) := dk_172 (dk_at dksX14_readMen_4 5 rfl rfl)
abbrev cX14_manAtHand : ByteArray := prog_23_method_94_code
def yX14_manAtHand : MethodName := ⟨RX14, "manAtHand", "()I"⟩
def dkwX14_manAtHand_1 : List UInt8 := [27, 172, 132, 1, 1, 167, 255, 229, 2, 172]
abbrev dktX14_manAtHand_1 : List UInt8 := dkwX14_manAtHand_1 ++ []
def dkwX14_manAtHand_0 : List UInt8 := [3, 60, 27, 42, 182, 1, 32, 162, 0, 25, 42, 180, 0, 25, 27, 47, 42, 180, 0, 183, 148, 154, 0, 5]
abbrev dktX14_manAtHand_0 : List UInt8 := dkwX14_manAtHand_0 ++ dktX14_manAtHand_1
theorem dksX14_manAtHand_0 : cX14_manAtHand.data.toList.drop 0 = dktX14_manAtHand_0 := by decide +kernel
theorem dksX14_manAtHand_1 : cX14_manAtHand.data.toList.drop 24 = dktX14_manAtHand_1 := dk_seg dksX14_manAtHand_0 24 rfl rfl
theorem dX14_manAtHand_0 : decode cX14_manAtHand 0 = .ok (.iconst 0, 1) := dk_3 (dk_at dksX14_manAtHand_0 0 rfl rfl)
theorem dX14_manAtHand_1 : decode cX14_manAtHand 1 = .ok (.istore_n 1, 1) := dk_60 (dk_at dksX14_manAtHand_0 1 rfl rfl)
theorem dX14_manAtHand_2 : decode cX14_manAtHand 2 = .ok (.iload_n 1, 1) := dk_27 (dk_at dksX14_manAtHand_0 2 rfl rfl)
theorem dX14_manAtHand_3 : decode cX14_manAtHand 3 = .ok (.aload_n 0, 1) := dk_42 (dk_at dksX14_manAtHand_0 3 rfl rfl)
theorem dX14_manAtHand_4 : decode cX14_manAtHand 4 = .ok (.invokevirtual 288, 3) := dk_182 1 32 (dk_at dksX14_manAtHand_0 4 rfl rfl)
theorem dX14_manAtHand_7 : decode cX14_manAtHand 7 = .ok (.if_icmp .ge 25, 3) := dk_162 0 25 (dk_at dksX14_manAtHand_0 7 rfl rfl)
theorem dX14_manAtHand_10 : decode cX14_manAtHand 10 = .ok (.aload_n 0, 1) := dk_42 (dk_at dksX14_manAtHand_0 10 rfl rfl)
theorem dX14_manAtHand_11 : decode cX14_manAtHand 11 = .ok (.getfield 25, 3) := dk_180 0 25 (dk_at dksX14_manAtHand_0 11 rfl rfl)
theorem dX14_manAtHand_14 : decode cX14_manAtHand 14 = .ok (.iload_n 1, 1) := dk_27 (dk_at dksX14_manAtHand_0 14 rfl rfl)
theorem dX14_manAtHand_15 : decode cX14_manAtHand 15 = .ok (.laload, 1) := dk_47 (dk_at dksX14_manAtHand_0 15 rfl rfl)
theorem dX14_manAtHand_16 : decode cX14_manAtHand 16 = .ok (.aload_n 0, 1) := dk_42 (dk_at dksX14_manAtHand_0 16 rfl rfl)
theorem dX14_manAtHand_17 : decode cX14_manAtHand 17 = .ok (.getfield 183, 3) := dk_180 0 183 (dk_at dksX14_manAtHand_0 17 rfl rfl)
theorem dX14_manAtHand_20 : decode cX14_manAtHand 20 = .ok (.lcmp, 1) := dk_148 (dk_at dksX14_manAtHand_0 20 rfl rfl)
theorem dX14_manAtHand_21 : decode cX14_manAtHand 21 = .ok (.ifCond .ne 5, 3) := dk_154 0 5 (dk_at dksX14_manAtHand_0 21 rfl rfl)
theorem dX14_manAtHand_24 : decode cX14_manAtHand 24 = .ok (.iload_n 1, 1) := dk_27 (dk_at dksX14_manAtHand_1 0 rfl rfl)
theorem dX14_manAtHand_25 : decode cX14_manAtHand 25 = .ok (.ireturn, 1) := dk_172 (dk_at dksX14_manAtHand_1 1 rfl rfl)
theorem dX14_manAtHand_26 : decode cX14_manAtHand 26 = .ok (.iinc 1 1, 3) := dk_132 1 1 (dk_at dksX14_manAtHand_1 2 rfl rfl)
theorem dX14_manAtHand_29 : decode cX14_manAtHand 29 = .ok (.goto (-27), 3) := dk_167 255 229 (dk_at dksX14_manAtHand_1 5 rfl rfl)
theorem dX14_manAtHand_32 : decode cX14_manAtHand 32 = .ok (.iconst (-1), 1) := dk_2 (dk_at dksX14_manAtHand_1 8 rfl rfl)
theorem dX14_manAtHand_33 : decode cX14_manAtHand 33 = .ok (.ireturn, 1) := dk_172 (dk_at dksX14_manAtHand_1 9 rfl rfl)
abbrev cX14_night : ByteArray := prog_23_method_99_code
def yX14_night : MethodName := ⟨RX14, "night", "(II)I"⟩
def dkwX14_night_1 : List UInt8 := [184, 0, 219, 154, 0, 5, 2, 172, 42, 182, 1, 244, 42, 180, 0, 142, 7, 27, 104, 28, 96, 46, 172]
abbrev dktX14_night_1 : List UInt8 := dkwX14_night_1 ++ []
def dkwX14_night_0 : List UInt8 := [42, 3, 181, 0, 148, 42, 182, 0, 232, 27, 3, 16, 59, 184, 0, 219, 153, 0, 12, 28, 3, 6]
abbrev dktX14_night_0 : List UInt8 := dkwX14_night_0 ++ dktX14_night_1
theorem dksX14_night_0 : cX14_night.data.toList.drop 0 = dktX14_night_0 := by decide +kernel
theorem dksX14_night_1 : cX14_night.data.toList.drop 22 = dktX14_night_1 := dk_seg dksX14_night_0 22 rfl rfl
theorem dX14_night_0 : decode cX14_night 0 = .ok (.aload_n 0, 1) := dk_42 (dk_at dksX14_night_0 0 rfl rfl)
theorem dX14_night_1 : decode cX14_night 1 = .ok (.iconst 0, 1) := dk_3 (dk_at dksX14_night_0 1 rfl rfl)
theorem dX14_night_2 : decode cX14_night 2 = .ok (.putfield 148, 3) := dk_181 0 148 (dk_at dksX14_night_0 2 rfl rfl)
theorem dX14_night_5 : decode cX14_night 5 = .ok (.aload_n 0, 1) := dk_42 (dk_at dksX14_night_0 5 rfl rfl)
theorem dX14_night_6 : decode cX14_night 6 = .ok (.invokevirtual 232, 3) := dk_182 0 232 (dk_at dksX14_night_0 6 rfl rfl)
theorem dX14_night_9 : decode cX14_night 9 = .ok (.iload_n 1, 1) := dk_27 (dk_at dksX14_night_0 9 rfl rfl)
theorem dX14_night_10 : decode cX14_night 10 = .ok (.iconst 0, 1) := dk_3 (dk_at dksX14_night_0 10 rfl rfl)
theorem dX14_night_11 : decode cX14_night 11 = .ok (.bipush 59, 2) := dk_16 59 (dk_at dksX14_night_0 11 rfl rfl)
theorem dX14_night_13 : decode cX14_night 13 = .ok (.invokestatic 219, 3) := dk_184 0 219 (dk_at dksX14_night_0 13 rfl rfl)
theorem dX14_night_16 : decode cX14_night 16 = .ok (.ifCond .eq 12, 3) := dk_153 0 12 (dk_at dksX14_night_0 16 rfl rfl)
theorem dX14_night_19 : decode cX14_night 19 = .ok (.iload_n 2, 1) := dk_28 (dk_at dksX14_night_0 19 rfl rfl)
theorem dX14_night_20 : decode cX14_night 20 = .ok (.iconst 0, 1) := dk_3 (dk_at dksX14_night_0 20 rfl rfl)
theorem dX14_night_21 : decode cX14_night 21 = .ok (.iconst 3, 1) := dk_6 (dk_at dksX14_night_0 21 rfl rfl)
theorem dX14_night_22 : decode cX14_night 22 = .ok (.invokestatic 219, 3) := dk_184 0 219 (dk_at dksX14_night_1 0 rfl rfl)
theorem dX14_night_25 : decode cX14_night 25 = .ok (.ifCond .ne 5, 3) := dk_154 0 5 (dk_at dksX14_night_1 3 rfl rfl)
theorem dX14_night_28 : decode cX14_night 28 = .ok (.iconst (-1), 1) := dk_2 (dk_at dksX14_night_1 6 rfl rfl)
theorem dX14_night_29 : decode cX14_night 29 = .ok (.ireturn, 1) := dk_172 (dk_at dksX14_night_1 7 rfl rfl)
theorem dX14_night_30 : decode cX14_night 30 = .ok (.aload_n 0, 1) := dk_42 (dk_at dksX14_night_1 8 rfl rfl)
theorem dX14_night_31 : decode cX14_night 31 = .ok (.invokevirtual 500, 3) := dk_182 1 244 (dk_at dksX14_night_1 9 rfl rfl)
theorem dX14_night_34 : decode cX14_night 34 = .ok (.aload_n 0, 1) := dk_42 (dk_at dksX14_night_1 12 rfl rfl)
theorem dX14_night_35 : decode cX14_night 35 = .ok (.getfield 142, 3) := dk_180 0 142 (dk_at dksX14_night_1 13 rfl rfl)
theorem dX14_night_38 : decode cX14_night 38 = .ok (.iconst 4, 1) := dk_7 (dk_at dksX14_night_1 16 rfl rfl)
theorem dX14_night_39 : decode cX14_night 39 = .ok (.iload_n 1, 1) := dk_27 (dk_at dksX14_night_1 17 rfl rfl)
theorem dX14_night_40 : decode cX14_night 40 = .ok (.imul, 1) := dk_104 (dk_at dksX14_night_1 18 rfl rfl)
theorem dX14_night_41 : decode cX14_night 41 = .ok (.iload_n 2, 1) := dk_28 (dk_at dksX14_night_1 19 rfl rfl)
theorem dX14_night_42 : decode cX14_night 42 = .ok (.iadd, 1) := dk_96 (dk_at dksX14_night_1 20 rfl rfl)
theorem dX14_night_43 : decode cX14_night 43 = .ok (.iaload, 1) := dk_46 (dk_at dksX14_night_1 21 rfl rfl)
theorem dX14_night_44 : decode cX14_night 44 = .ok (.ireturn, 1) := dk_172 (dk_at dksX14_night_1 22 rfl rfl)
abbrev cX14_spend : ByteArray := prog_23_method_98_code
def yX14_spend : MethodName := ⟨RX14, "spend", "()V"⟩
def dkwX14_spend_14 : List UInt8 := [177]
abbrev dktX14_spend_14 : List UInt8 := dkwX14_spend_14 ++ []
def dkwX14_spend_13 : List UInt8 := [182, 1, 180, 79, 42, 180, 0, 142, 7, 29, 104, 6, 96, 42, 180, 1, 78, 79, 132, 3, 1, 167, 254, 216]
abbrev dktX14_spend_13 : List UInt8 := dkwX14_spend_13 ++ dktX14_spend_14
def dkwX14_spend_12 : List UInt8 := [180, 0, 142, 7, 29, 104, 4, 96, 42, 180, 1, 167, 79, 42, 180, 0, 142, 7, 29, 104, 5, 96, 42]
abbrev dktX14_spend_12 : List UInt8 := dkwX14_spend_12 ++ dktX14_spend_13
def dkwX14_spend_11 : List UInt8 := [21, 4, 100, 182, 1, 189, 42, 180, 0, 142, 7, 29, 104, 42, 180, 1, 60, 21, 4, 100, 79, 42]
abbrev dktX14_spend_11 : List UInt8 := dkwX14_spend_11 ++ dktX14_spend_12
def dkwX14_spend_10 : List UInt8 := [21, 6, 16, 60, 162, 0, 13, 42, 182, 1, 113, 132, 6, 1, 167, 255, 242, 42, 21, 5, 42, 180, 1, 60]
abbrev dktX14_spend_10 : List UInt8 := dkwX14_spend_10 ++ dktX14_spend_11
def dkwX14_spend_9 : List UInt8 := [180, 1, 60, 54, 4, 42, 27, 42, 180, 0, 105, 42, 180, 0, 108, 3, 182, 1, 186, 54, 5, 3, 54, 6]
abbrev dktX14_spend_9 : List UInt8 := dkwX14_spend_9 ++ dktX14_spend_10
def dkwX14_spend_8 : List UInt8 := [160, 0, 17, 42, 42, 180, 0, 13, 21, 4, 5, 96, 46, 182, 1, 229, 87, 132, 2, 1, 167, 255, 84, 42]
abbrev dktX14_spend_8 : List UInt8 := dkwX14_spend_8 ++ dktX14_spend_9
def dkwX14_spend_7 : List UInt8 := [3, 182, 1, 110, 21, 5, 6, 160, 0, 13, 42, 180, 0, 13, 21, 4, 5, 96, 46, 60, 21, 5, 7]
abbrev dktX14_spend_7 : List UInt8 := dkwX14_spend_7 ++ dktX14_spend_8
def dkwX14_spend_6 : List UInt8 := [167, 0, 4, 5, 42, 180, 0, 13, 21, 4, 5, 96, 46, 182, 1, 110, 21, 5, 5, 160, 0, 9, 42, 3]
abbrev dktX14_spend_6 : List UInt8 := dkwX14_spend_6 ++ dktX14_spend_7
def dkwX14_spend_5 : List UInt8 := [21, 4, 6, 96, 21, 6, 96, 46, 79, 132, 6, 1, 167, 255, 220, 42, 21, 5, 154, 0, 7, 4]
abbrev dktX14_spend_5 : List UInt8 := dkwX14_spend_5 ++ dktX14_spend_6
def dkwX14_spend_4 : List UInt8 := [21, 6, 42, 180, 0, 13, 21, 4, 5, 96, 46, 162, 0, 28, 42, 180, 0, 39, 21, 6, 42, 180, 0, 13]
abbrev dktX14_spend_4 : List UInt8 := dkwX14_spend_4 ++ dktX14_spend_5
def dkwX14_spend_3 : List UInt8 := [96, 54, 4, 42, 180, 0, 13, 21, 4, 4, 96, 46, 54, 5, 21, 5, 5, 162, 0, 68, 3, 54, 6]
abbrev dktX14_spend_3 : List UInt8 := dkwX14_spend_3 ++ dktX14_spend_4
def dkwX14_spend_2 : List UInt8 := [42, 180, 0, 13, 17, 0, 210, 16, 16, 28, 104, 96, 46, 29, 160, 0, 149, 17, 0, 210, 16, 16, 28, 104]
abbrev dktX14_spend_2 : List UInt8 := dkwX14_spend_2 ++ dktX14_spend_3
def dkwX14_spend_1 : List UInt8 := [4, 60, 3, 61, 3, 62, 29, 16, 60, 162, 1, 40, 28, 42, 180, 0, 13, 17, 0, 200, 46, 162, 0, 166]
abbrev dktX14_spend_1 : List UInt8 := dkwX14_spend_1 ++ dktX14_spend_2
def dkwX14_spend_0 : List UInt8 := [42, 182, 0, 232, 42, 182, 1, 195, 42, 42, 180, 0, 13, 8, 46, 181, 1, 78, 42, 3, 3, 182, 1, 110]
abbrev dktX14_spend_0 : List UInt8 := dkwX14_spend_0 ++ dktX14_spend_1
theorem dksX14_spend_0 : cX14_spend.data.toList.drop 0 = dktX14_spend_0 := by decide +kernel
theorem dksX14_spend_1 : cX14_spend.data.toList.drop 24 = dktX14_spend_1 := dk_seg dksX14_spend_0 24 rfl rfl
theorem dksX14_spend_2 : cX14_spend.data.toList.drop 48 = dktX14_spend_2 := dk_seg dksX14_spend_1 24 rfl rfl
theorem dksX14_spend_3 : cX14_spend.data.toList.drop 72 = dktX14_spend_3 := dk_seg dksX14_spend_2 24 rfl rfl
theorem dksX14_spend_4 : cX14_spend.data.toList.drop 95 = dktX14_spend_4 := dk_seg dksX14_spend_3 23 rfl rfl
theorem dksX14_spend_5 : cX14_spend.data.toList.drop 119 = dktX14_spend_5 := dk_seg dksX14_spend_4 24 rfl rfl
theorem dksX14_spend_6 : cX14_spend.data.toList.drop 141 = dktX14_spend_6 := dk_seg dksX14_spend_5 22 rfl rfl
theorem dksX14_spend_7 : cX14_spend.data.toList.drop 165 = dktX14_spend_7 := dk_seg dksX14_spend_6 24 rfl rfl
theorem dksX14_spend_8 : cX14_spend.data.toList.drop 188 = dktX14_spend_8 := dk_seg dksX14_spend_7 23 rfl rfl
theorem dksX14_spend_9 : cX14_spend.data.toList.drop 212 = dktX14_spend_9 := dk_seg dksX14_spend_8 24 rfl rfl
theorem dksX14_spend_10 : cX14_spend.data.toList.drop 236 = dktX14_spend_10 := dk_seg dksX14_spend_9 24 rfl rfl
theorem dksX14_spend_11 : cX14_spend.data.toList.drop 260 = dktX14_spend_11 := dk_seg dksX14_spend_10 24 rfl rfl
theorem dksX14_spend_12 : cX14_spend.data.toList.drop 282 = dktX14_spend_12 := dk_seg dksX14_spend_11 22 rfl rfl
theorem dksX14_spend_13 : cX14_spend.data.toList.drop 305 = dktX14_spend_13 := dk_seg dksX14_spend_12 23 rfl rfl
theorem dksX14_spend_14 : cX14_spend.data.toList.drop 329 = dktX14_spend_14 := dk_seg dksX14_spend_13 24 rfl rfl
theorem dX14_spend_0 : decode cX14_spend 0 = .ok (.aload_n 0, 1) := dk_42 (dk_at dksX14_spend_0 0 rfl rfl)
theorem dX14_spend_1 : decode cX14_spend 1 = .ok (.invokevirtual 232, 3) := dk_182 0 232 (dk_at dksX14_spend_0 1 rfl rfl)
theorem dX14_spend_4 : decode cX14_spend 4 = .ok (.aload_n 0, 1) := dk_42 (dk_at dksX14_spend_0 4 rfl rfl)
theorem dX14_spend_5 : decode cX14_spend 5 = .ok (.invokevirtual 451, 3) := dk_182 1 195 (dk_at dksX14_spend_0 5 rfl rfl)
theorem dX14_spend_8 : decode cX14_spend 8 = .ok (.aload_n 0, 1) := dk_42 (dk_at dksX14_spend_0 8 rfl rfl)
theorem dX14_spend_9 : decode cX14_spend 9 = .ok (.aload_n 0, 1) := dk_42 (dk_at dksX14_spend_0 9 rfl rfl)
theorem dX14_spend_10 : decode cX14_spend 10 = .ok (.getfield 13, 3) := dk_180 0 13 (dk_at dksX14_spend_0 10 rfl rfl)
theorem dX14_spend_13 : decode cX14_spend 13 = .ok (.iconst 5, 1) := dk_8 (dk_at dksX14_spend_0 13 rfl rfl)
theorem dX14_spend_14 : decode cX14_spend 14 = .ok (.iaload, 1) := dk_46 (dk_at dksX14_spend_0 14 rfl rfl)
theorem dX14_spend_15 : decode cX14_spend 15 = .ok (.putfield 334, 3) := dk_181 1 78 (dk_at dksX14_spend_0 15 rfl rfl)
theorem dX14_spend_18 : decode cX14_spend 18 = .ok (.aload_n 0, 1) := dk_42 (dk_at dksX14_spend_0 18 rfl rfl)
theorem dX14_spend_19 : decode cX14_spend 19 = .ok (.iconst 0, 1) := dk_3 (dk_at dksX14_spend_0 19 rfl rfl)
theorem dX14_spend_20 : decode cX14_spend 20 = .ok (.iconst 0, 1) := dk_3 (dk_at dksX14_spend_0 20 rfl rfl)
theorem dX14_spend_21 : decode cX14_spend 21 = .ok (.invokevirtual 366, 3) := dk_182 1 110 (dk_at dksX14_spend_0 21 rfl rfl)
theorem dX14_spend_24 : decode cX14_spend 24 = .ok (.iconst 1, 1) := dk_4 (dk_at dksX14_spend_1 0 rfl rfl)
theorem dX14_spend_25 : decode cX14_spend 25 = .ok (.istore_n 1, 1) := dk_60 (dk_at dksX14_spend_1 1 rfl rfl)
theorem dX14_spend_26 : decode cX14_spend 26 = .ok (.iconst 0, 1) := dk_3 (dk_at dksX14_spend_1 2 rfl rfl)
theorem dX14_spend_27 : decode cX14_spend 27 = .ok (.istore_n 2, 1) := dk_61 (dk_at dksX14_spend_1 3 rfl rfl)
theorem dX14_spend_28 : decode cX14_spend 28 = .ok (.iconst 0, 1) := dk_3 (dk_at dksX14_spend_1 4 rfl rfl)
theorem dX14_spend_29 : decode cX14_spend 29 = .ok (.istore_n 3, 1) := dk_62 (dk_at dksX14_spend_1 5 rfl rfl)
theorem dX14_spend_30 : decode cX14_spend 30 = .ok (.iload_n 3, 1) := dk_29 (dk_at dksX14_spend_1 6 rfl rfl)
theorem dX14_spend_31 : decode cX14_spend 31 = .ok (.bipush 60, 2) := dk_16 60 (dk_at dksX14_spend_1 7 rfl rfl)
theorem dX14_spend_33 : decode cX14_spend 33 = .ok (.if_icmp .ge 296, 3) := dk_162 1 40 (dk_at dksX14_spend_1 9 rfl rfl)
theorem dX14_spend_36 : decode cX14_spend 36 = .ok (.iload_n 2, 1) := dk_28 (dk_at dksX14_spend_1 12 rfl rfl)
theorem dX14_spend_37 : decode cX14_spend 37 = .ok (.aload_n 0, 1) := dk_42 (dk_at dksX14_spend_1 13 rfl rfl)
theorem dX14_spend_38 : decode cX14_spend 38 = .ok (.getfield 13, 3) := dk_180 0 13 (dk_at dksX14_spend_1 14 rfl rfl)
theorem dX14_spend_41 : decode cX14_spend 41 = .ok (.sipush 200, 3) := dk_17 0 200 (dk_at dksX14_spend_1 17 rfl rfl)
theorem dX14_spend_44 : decode cX14_spend 44 = .ok (.iaload, 1) := dk_46 (dk_at dksX14_spend_1 20 rfl rfl)
theorem dX14_spend_45 : decode cX14_spend 45 = .ok (.if_icmp .ge 166, 3) := dk_162 0 166 (dk_at dksX14_spend_1 21 rfl rfl)
theorem dX14_spend_48 : decode cX14_spend 48 = .ok (.aload_n 0, 1) := dk_42 (dk_at dksX14_spend_2 0 rfl rfl)
theorem dX14_spend_49 : decode cX14_spend 49 = .ok (.getfield 13, 3) := dk_180 0 13 (dk_at dksX14_spend_2 1 rfl rfl)
theorem dX14_spend_52 : decode cX14_spend 52 = .ok (.sipush 210, 3) := dk_17 0 210 (dk_at dksX14_spend_2 4 rfl rfl)
theorem dX14_spend_55 : decode cX14_spend 55 = .ok (.bipush 16, 2) := dk_16 16 (dk_at dksX14_spend_2 7 rfl rfl)
theorem dX14_spend_57 : decode cX14_spend 57 = .ok (.iload_n 2, 1) := dk_28 (dk_at dksX14_spend_2 9 rfl rfl)
theorem dX14_spend_58 : decode cX14_spend 58 = .ok (.imul, 1) := dk_104 (dk_at dksX14_spend_2 10 rfl rfl)
theorem dX14_spend_59 : decode cX14_spend 59 = .ok (.iadd, 1) := dk_96 (dk_at dksX14_spend_2 11 rfl rfl)
theorem dX14_spend_60 : decode cX14_spend 60 = .ok (.iaload, 1) := dk_46 (dk_at dksX14_spend_2 12 rfl rfl)
theorem dX14_spend_61 : decode cX14_spend 61 = .ok (.iload_n 3, 1) := dk_29 (dk_at dksX14_spend_2 13 rfl rfl)
theorem dX14_spend_62 : decode cX14_spend 62 = .ok (.if_icmp .ne 149, 3) := dk_160 0 149 (dk_at dksX14_spend_2 14 rfl rfl)
theorem dX14_spend_65 : decode cX14_spend 65 = .ok (.sipush 210, 3) := dk_17 0 210 (dk_at dksX14_spend_2 17 rfl rfl)
theorem dX14_spend_68 : decode cX14_spend 68 = .ok (.bipush 16, 2) := dk_16 16 (dk_at dksX14_spend_2 20 rfl rfl)
theorem dX14_spend_70 : decode cX14_spend 70 = .ok (.iload_n 2, 1) := dk_28 (dk_at dksX14_spend_2 22 rfl rfl)
theorem dX14_spend_71 : decode cX14_spend 71 = .ok (.imul, 1) := dk_104 (dk_at dksX14_spend_2 23 rfl rfl)
theorem dX14_spend_72 : decode cX14_spend 72 = .ok (.iadd, 1) := dk_96 (dk_at dksX14_spend_3 0 rfl rfl)
theorem dX14_spend_73 : decode cX14_spend 73 = .ok (.istore 4, 2) := dk_54 4 (dk_at dksX14_spend_3 1 rfl rfl)
theorem dX14_spend_75 : decode cX14_spend 75 = .ok (.aload_n 0, 1) := dk_42 (dk_at dksX14_spend_3 3 rfl rfl)
theorem dX14_spend_76 : decode cX14_spend 76 = .ok (.getfield 13, 3) := dk_180 0 13 (dk_at dksX14_spend_3 4 rfl rfl)
theorem dX14_spend_79 : decode cX14_spend 79 = .ok (.iload 4, 2) := dk_21 4 (dk_at dksX14_spend_3 7 rfl rfl)
theorem dX14_spend_81 : decode cX14_spend 81 = .ok (.iconst 1, 1) := dk_4 (dk_at dksX14_spend_3 9 rfl rfl)
theorem dX14_spend_82 : decode cX14_spend 82 = .ok (.iadd, 1) := dk_96 (dk_at dksX14_spend_3 10 rfl rfl)
theorem dX14_spend_83 : decode cX14_spend 83 = .ok (.iaload, 1) := dk_46 (dk_at dksX14_spend_3 11 rfl rfl)
theorem dX14_spend_84 : decode cX14_spend 84 = .ok (.istore 5, 2) := dk_54 5 (dk_at dksX14_spend_3 12 rfl rfl)
theorem dX14_spend_86 : decode cX14_spend 86 = .ok (.iload 5, 2) := dk_21 5 (dk_at dksX14_spend_3 14 rfl rfl)
theorem dX14_spend_88 : decode cX14_spend 88 = .ok (.iconst 2, 1) := dk_5 (dk_at dksX14_spend_3 16 rfl rfl)
theorem dX14_spend_89 : decode cX14_spend 89 = .ok (.if_icmp .ge 68, 3) := dk_162 0 68 (dk_at dksX14_spend_3 17 rfl rfl)
theorem dX14_spend_92 : decode cX14_spend 92 = .ok (.iconst 0, 1) := dk_3 (dk_at dksX14_spend_3 20 rfl rfl)
theorem dX14_spend_93 : decode cX14_spend 93 = .ok (.istore 6, 2) := dk_54 6 (dk_at dksX14_spend_3 21 rfl rfl)
theorem dX14_spend_95 : decode cX14_spend 95 = .ok (.iload 6, 2) := dk_21 6 (dk_at dksX14_spend_4 0 rfl rfl)
theorem dX14_spend_97 : decode cX14_spend 97 = .ok (.aload_n 0, 1) := dk_42 (dk_at dksX14_spend_4 2 rfl rfl)
theorem dX14_spend_98 : decode cX14_spend 98 = .ok (.getfield 13, 3) := dk_180 0 13 (dk_at dksX14_spend_4 3 rfl rfl)
theorem dX14_spend_101 : decode cX14_spend 101 = .ok (.iload 4, 2) := dk_21 4 (dk_at dksX14_spend_4 6 rfl rfl)
theorem dX14_spend_103 : decode cX14_spend 103 = .ok (.iconst 2, 1) := dk_5 (dk_at dksX14_spend_4 8 rfl rfl)
theorem dX14_spend_104 : decode cX14_spend 104 = .ok (.iadd, 1) := dk_96 (dk_at dksX14_spend_4 9 rfl rfl)
theorem dX14_spend_105 : decode cX14_spend 105 = .ok (.iaload, 1) := dk_46 (dk_at dksX14_spend_4 10 rfl rfl)
theorem dX14_spend_106 : decode cX14_spend 106 = .ok (.if_icmp .ge 28, 3) := dk_162 0 28 (dk_at dksX14_spend_4 11 rfl rfl)
theorem dX14_spend_109 : decode cX14_spend 109 = .ok (.aload_n 0, 1) := dk_42 (dk_at dksX14_spend_4 14 rfl rfl)
theorem dX14_spend_110 : decode cX14_spend 110 = .ok (.getfield 39, 3) := dk_180 0 39 (dk_at dksX14_spend_4 15 rfl rfl)
theorem dX14_spend_113 : decode cX14_spend 113 = .ok (.iload 6, 2) := dk_21 6 (dk_at dksX14_spend_4 18 rfl rfl)
theorem dX14_spend_115 : decode cX14_spend 115 = .ok (.aload_n 0, 1) := dk_42 (dk_at dksX14_spend_4 20 rfl rfl)
theorem dX14_spend_116 : decode cX14_spend 116 = .ok (.getfield 13, 3) := dk_180 0 13 (dk_at dksX14_spend_4 21 rfl rfl)
theorem dX14_spend_119 : decode cX14_spend 119 = .ok (.iload 4, 2) := dk_21 4 (dk_at dksX14_spend_5 0 rfl rfl)
theorem dX14_spend_121 : decode cX14_spend 121 = .ok (.iconst 3, 1) := dk_6 (dk_at dksX14_spend_5 2 rfl rfl)
theorem dX14_spend_122 : decode cX14_spend 122 = .ok (.iadd, 1) := dk_96 (dk_at dksX14_spend_5 3 rfl rfl)
theorem dX14_spend_123 : decode cX14_spend 123 = .ok (.iload 6, 2) := dk_21 6 (dk_at dksX14_spend_5 4 rfl rfl)
theorem dX14_spend_125 : decode cX14_spend 125 = .ok (.iadd, 1) := dk_96 (dk_at dksX14_spend_5 6 rfl rfl)
theorem dX14_spend_126 : decode cX14_spend 126 = .ok (.iaload, 1) := dk_46 (dk_at dksX14_spend_5 7 rfl rfl)
theorem dX14_spend_127 : decode cX14_spend 127 = .ok (.iastore, 1) := dk_79 (dk_at dksX14_spend_5 8 rfl rfl)
theorem dX14_spend_128 : decode cX14_spend 128 = .ok (.iinc 6 1, 3) := dk_132 6 1 (dk_at dksX14_spend_5 9 rfl rfl)
theorem dX14_spend_131 : decode cX14_spend 131 = .ok (.goto (-36), 3) := dk_167 255 220 (dk_at dksX14_spend_5 12 rfl rfl)
theorem dX14_spend_134 : decode cX14_spend 134 = .ok (.aload_n 0, 1) := dk_42 (dk_at dksX14_spend_5 15 rfl rfl)
theorem dX14_spend_135 : decode cX14_spend 135 = .ok (.iload 5, 2) := dk_21 5 (dk_at dksX14_spend_5 16 rfl rfl)
theorem dX14_spend_137 : decode cX14_spend 137 = .ok (.ifCond .ne 7, 3) := dk_154 0 7 (dk_at dksX14_spend_5 18 rfl rfl)
theorem dX14_spend_140 : decode cX14_spend 140 = .ok (.iconst 1, 1) := dk_4 (dk_at dksX14_spend_5 21 rfl rfl)
theorem dX14_spend_141 : decode cX14_spend 141 = .ok (.goto 4, 3) := dk_167 0 4 (dk_at dksX14_spend_6 0 rfl rfl)
theorem dX14_spend_144 : decode cX14_spend 144 = .ok (.iconst 2, 1) := dk_5 (dk_at dksX14_spend_6 3 rfl rfl)
theorem dX14_spend_145 : decode cX14_spend 145 = .ok (.aload_n 0, 1) := dk_42 (dk_at dksX14_spend_6 4 rfl rfl)
theorem dX14_spend_146 : decode cX14_spend 146 = .ok (.getfield 13, 3) := dk_180 0 13 (dk_at dksX14_spend_6 5 rfl rfl)
theorem dX14_spend_149 : decode cX14_spend 149 = .ok (.iload 4, 2) := dk_21 4 (dk_at dksX14_spend_6 8 rfl rfl)
theorem dX14_spend_151 : decode cX14_spend 151 = .ok (.iconst 2, 1) := dk_5 (dk_at dksX14_spend_6 10 rfl rfl)
theorem dX14_spend_152 : decode cX14_spend 152 = .ok (.iadd, 1) := dk_96 (dk_at dksX14_spend_6 11 rfl rfl)
theorem dX14_spend_153 : decode cX14_spend 153 = .ok (.iaload, 1) := dk_46 (dk_at dksX14_spend_6 12 rfl rfl)
theorem dX14_spend_154 : decode cX14_spend 154 = .ok (.invokevirtual 366, 3) := dk_182 1 110 (dk_at dksX14_spend_6 13 rfl rfl)
theorem dX14_spend_157 : decode cX14_spend 157 = .ok (.iload 5, 2) := dk_21 5 (dk_at dksX14_spend_6 16 rfl rfl)
theorem dX14_spend_159 : decode cX14_spend 159 = .ok (.iconst 2, 1) := dk_5 (dk_at dksX14_spend_6 18 rfl rfl)
theorem dX14_spend_160 : decode cX14_spend 160 = .ok (.if_icmp .ne 9, 3) := dk_160 0 9 (dk_at dksX14_spend_6 19 rfl rfl)
theorem dX14_spend_163 : decode cX14_spend 163 = .ok (.aload_n 0, 1) := dk_42 (dk_at dksX14_spend_6 22 rfl rfl)
theorem dX14_spend_164 : decode cX14_spend 164 = .ok (.iconst 0, 1) := dk_3 (dk_at dksX14_spend_6 23 rfl rfl)
theorem dX14_spend_165 : decode cX14_spend 165 = .ok (.iconst 0, 1) := dk_3 (dk_at dksX14_spend_7 0 rfl rfl)
theorem dX14_spend_166 : decode cX14_spend 166 = .ok (.invokevirtual 366, 3) := dk_182 1 110 (dk_at dksX14_spend_7 1 rfl rfl)
theorem dX14_spend_169 : decode cX14_spend 169 = .ok (.iload 5, 2) := dk_21 5 (dk_at dksX14_spend_7 4 rfl rfl)
theorem dX14_spend_171 : decode cX14_spend 171 = .ok (.iconst 3, 1) := dk_6 (dk_at dksX14_spend_7 6 rfl rfl)
theorem dX14_spend_172 : decode cX14_spend 172 = .ok (.if_icmp .ne 13, 3) := dk_160 0 13 (dk_at dksX14_spend_7 7 rfl rfl)
theorem dX14_spend_175 : decode cX14_spend 175 = .ok (.aload_n 0, 1) := dk_42 (dk_at dksX14_spend_7 10 rfl rfl)
theorem dX14_spend_176 : decode cX14_spend 176 = .ok (.getfield 13, 3) := dk_180 0 13 (dk_at dksX14_spend_7 11 rfl rfl)
theorem dX14_spend_179 : decode cX14_spend 179 = .ok (.iload 4, 2) := dk_21 4 (dk_at dksX14_spend_7 14 rfl rfl)
theorem dX14_spend_181 : decode cX14_spend 181 = .ok (.iconst 2, 1) := dk_5 (dk_at dksX14_spend_7 16 rfl rfl)
theorem dX14_spend_182 : decode cX14_spend 182 = .ok (.iadd, 1) := dk_96 (dk_at dksX14_spend_7 17 rfl rfl)
theorem dX14_spend_183 : decode cX14_spend 183 = .ok (.iaload, 1) := dk_46 (dk_at dksX14_spend_7 18 rfl rfl)
theorem dX14_spend_184 : decode cX14_spend 184 = .ok (.istore_n 1, 1) := dk_60 (dk_at dksX14_spend_7 19 rfl rfl)
theorem dX14_spend_185 : decode cX14_spend 185 = .ok (.iload 5, 2) := dk_21 5 (dk_at dksX14_spend_7 20 rfl rfl)
theorem dX14_spend_187 : decode cX14_spend 187 = .ok (.iconst 4, 1) := dk_7 (dk_at dksX14_spend_7 22 rfl rfl)
theorem dX14_spend_188 : decode cX14_spend 188 = .ok (.if_icmp .ne 17, 3) := dk_160 0 17 (dk_at dksX14_spend_8 0 rfl rfl)
theorem dX14_spend_191 : decode cX14_spend 191 = .ok (.aload_n 0, 1) := dk_42 (dk_at dksX14_spend_8 3 rfl rfl)
theorem dX14_spend_192 : decode cX14_spend 192 = .ok (.aload_n 0, 1) := dk_42 (dk_at dksX14_spend_8 4 rfl rfl)
theorem dX14_spend_193 : decode cX14_spend 193 = .ok (.getfield 13, 3) := dk_180 0 13 (dk_at dksX14_spend_8 5 rfl rfl)
theorem dX14_spend_196 : decode cX14_spend 196 = .ok (.iload 4, 2) := dk_21 4 (dk_at dksX14_spend_8 8 rfl rfl)
theorem dX14_spend_198 : decode cX14_spend 198 = .ok (.iconst 2, 1) := dk_5 (dk_at dksX14_spend_8 10 rfl rfl)
theorem dX14_spend_199 : decode cX14_spend 199 = .ok (.iadd, 1) := dk_96 (dk_at dksX14_spend_8 11 rfl rfl)
theorem dX14_spend_200 : decode cX14_spend 200 = .ok (.iaload, 1) := dk_46 (dk_at dksX14_spend_8 12 rfl rfl)
theorem dX14_spend_201 : decode cX14_spend 201 = .ok (.invokevirtual 485, 3) := dk_182 1 229 (dk_at dksX14_spend_8 13 rfl rfl)
theorem dX14_spend_204 : decode cX14_spend 204 = .ok (.pop, 1) := dk_87 (dk_at dksX14_spend_8 16 rfl rfl)
theorem dX14_spend_205 : decode cX14_spend 205 = .ok (.iinc 2 1, 3) := dk_132 2 1 (dk_at dksX14_spend_8 17 rfl rfl)
theorem dX14_spend_208 : decode cX14_spend 208 = .ok (.goto (-172), 3) := dk_167 255 84 (dk_at dksX14_spend_8 20 rfl rfl)
theorem dX14_spend_211 : decode cX14_spend 211 = .ok (.aload_n 0, 1) := dk_42 (dk_at dksX14_spend_8 23 rfl rfl)
theorem dX14_spend_212 : decode cX14_spend 212 = .ok (.getfield 316, 3) := dk_180 1 60 (dk_at dksX14_spend_9 0 rfl rfl)
theorem dX14_spend_215 : decode cX14_spend 215 = .ok (.istore 4, 2) := dk_54 4 (dk_at dksX14_spend_9 3 rfl rfl)
theorem dX14_spend_217 : decode cX14_spend 217 = .ok (.aload_n 0, 1) := dk_42 (dk_at dksX14_spend_9 5 rfl rfl)
theorem dX14_spend_218 : decode cX14_spend 218 = .ok (.iload_n 1, 1) := dk_27 (dk_at dksX14_spend_9 6 rfl rfl)
theorem dX14_spend_219 : decode cX14_spend 219 = .ok (.aload_n 0, 1) := dk_42 (dk_at dksX14_spend_9 7 rfl rfl)
theorem dX14_spend_220 : decode cX14_spend 220 = .ok (.getfield 105, 3) := dk_180 0 105 (dk_at dksX14_spend_9 8 rfl rfl)
theorem dX14_spend_223 : decode cX14_spend 223 = .ok (.aload_n 0, 1) := dk_42 (dk_at dksX14_spend_9 11 rfl rfl)
theorem dX14_spend_224 : decode cX14_spend 224 = .ok (.getfield 108, 3) := dk_180 0 108 (dk_at dksX14_spend_9 12 rfl rfl)
theorem dX14_spend_227 : decode cX14_spend 227 = .ok (.iconst 0, 1) := dk_3 (dk_at dksX14_spend_9 15 rfl rfl)
theorem dX14_spend_228 : decode cX14_spend 228 = .ok (.invokevirtual 442, 3) := dk_182 1 186 (dk_at dksX14_spend_9 16 rfl rfl)
theorem dX14_spend_231 : decode cX14_spend 231 = .ok (.istore 5, 2) := dk_54 5 (dk_at dksX14_spend_9 19 rfl rfl)
theorem dX14_spend_233 : decode cX14_spend 233 = .ok (.iconst 0, 1) := dk_3 (dk_at dksX14_spend_9 21 rfl rfl)
theorem dX14_spend_234 : decode cX14_spend 234 = .ok (.istore 6, 2) := dk_54 6 (dk_at dksX14_spend_9 22 rfl rfl)
theorem dX14_spend_236 : decode cX14_spend 236 = .ok (.iload 6, 2) := dk_21 6 (dk_at dksX14_spend_10 0 rfl rfl)
theorem dX14_spend_238 : decode cX14_spend 238 = .ok (.bipush 60, 2) := dk_16 60 (dk_at dksX14_spend_10 2 rfl rfl)
theorem dX14_spend_240 : decode cX14_spend 240 = .ok (.if_icmp .ge 13, 3) := dk_162 0 13 (dk_at dksX14_spend_10 4 rfl rfl)
theorem dX14_spend_243 : decode cX14_spend 243 = .ok (.aload_n 0, 1) := dk_42 (dk_at dksX14_spend_10 7 rfl rfl)
theorem dX14_spend_244 : decode cX14_spend 244 = .ok (.invokevirtual 369, 3) := dk_182 1 113 (dk_at dksX14_spend_10 8 rfl rfl)
theorem dX14_spend_247 : decode cX14_spend 247 = .ok (.iinc 6 1, 3) := dk_132 6 1 (dk_at dksX14_spend_10 11 rfl rfl)
theorem dX14_spend_250 : decode cX14_spend 250 = .ok (.goto (-14), 3) := dk_167 255 242 (dk_at dksX14_spend_10 14 rfl rfl)
theorem dX14_spend_253 : decode cX14_spend 253 = .ok (.aload_n 0, 1) := dk_42 (dk_at dksX14_spend_10 17 rfl rfl)
theorem dX14_spend_254 : decode cX14_spend 254 = .ok (.iload 5, 2) := dk_21 5 (dk_at dksX14_spend_10 18 rfl rfl)
theorem dX14_spend_256 : decode cX14_spend 256 = .ok (.aload_n 0, 1) := dk_42 (dk_at dksX14_spend_10 20 rfl rfl)
theorem dX14_spend_257 : decode cX14_spend 257 = .ok (.getfield 316, 3) := dk_180 1 60 (dk_at dksX14_spend_10 21 rfl rfl)
theorem dX14_spend_260 : decode cX14_spend 260 = .ok (.iload 4, 2) := dk_21 4 (dk_at dksX14_spend_11 0 rfl rfl)
theorem dX14_spend_262 : decode cX14_spend 262 = .ok (.isub, 1) := dk_100 (dk_at dksX14_spend_11 2 rfl rfl)
theorem dX14_spend_263 : decode cX14_spend 263 = .ok (.invokevirtual 445, 3) := dk_182 1 189 (dk_at dksX14_spend_11 3 rfl rfl)
theorem dX14_spend_266 : decode cX14_spend 266 = .ok (.aload_n 0, 1) := dk_42 (dk_at dksX14_spend_11 6 rfl rfl)
theorem dX14_spend_267 : decode cX14_spend 267 = .ok (.getfield 142, 3) := dk_180 0 142 (dk_at dksX14_spend_11 7 rfl rfl)
theorem dX14_spend_270 : decode cX14_spend 270 = .ok (.iconst 4, 1) := dk_7 (dk_at dksX14_spend_11 10 rfl rfl)
theorem dX14_spend_271 : decode cX14_spend 271 = .ok (.iload_n 3, 1) := dk_29 (dk_at dksX14_spend_11 11 rfl rfl)
theorem dX14_spend_272 : decode cX14_spend 272 = .ok (.imul, 1) := dk_104 (dk_at dksX14_spend_11 12 rfl rfl)
theorem dX14_spend_273 : decode cX14_spend 273 = .ok (.aload_n 0, 1) := dk_42 (dk_at dksX14_spend_11 13 rfl rfl)
theorem dX14_spend_274 : decode cX14_spend 274 = .ok (.getfield 316, 3) := dk_180 1 60 (dk_at dksX14_spend_11 14 rfl rfl)
theorem dX14_spend_277 : decode cX14_spend 277 = .ok (.iload 4, 2) := dk_21 4 (dk_at dksX14_spend_11 17 rfl rfl)
theorem dX14_spend_279 : decode cX14_spend 279 = .ok (.isub, 1) := dk_100 (dk_at dksX14_spend_11 19 rfl rfl)
theorem dX14_spend_280 : decode cX14_spend 280 = .ok (.iastore, 1) := dk_79 (dk_at dksX14_spend_11 20 rfl rfl)
theorem dX14_spend_281 : decode cX14_spend 281 = .ok (.aload_n 0, 1) := dk_42 (dk_at dksX14_spend_11 21 rfl rfl)
theorem dX14_spend_282 : decode cX14_spend 282 = .ok (.getfield 142, 3) := dk_180 0 142 (dk_at dksX14_spend_12 0 rfl rfl)
theorem dX14_spend_285 : decode cX14_spend 285 = .ok (.iconst 4, 1) := dk_7 (dk_at dksX14_spend_12 3 rfl rfl)
theorem dX14_spend_286 : decode cX14_spend 286 = .ok (.iload_n 3, 1) := dk_29 (dk_at dksX14_spend_12 4 rfl rfl)
theorem dX14_spend_287 : decode cX14_spend 287 = .ok (.imul, 1) := dk_104 (dk_at dksX14_spend_12 5 rfl rfl)
theorem dX14_spend_288 : decode cX14_spend 288 = .ok (.iconst 1, 1) := dk_4 (dk_at dksX14_spend_12 6 rfl rfl)
theorem dX14_spend_289 : decode cX14_spend 289 = .ok (.iadd, 1) := dk_96 (dk_at dksX14_spend_12 7 rfl rfl)
theorem dX14_spend_290 : decode cX14_spend 290 = .ok (.aload_n 0, 1) := dk_42 (dk_at dksX14_spend_12 8 rfl rfl)
theorem dX14_spend_291 : decode cX14_spend 291 = .ok (.getfield 423, 3) := dk_180 1 167 (dk_at dksX14_spend_12 9 rfl rfl)
theorem dX14_spend_294 : decode cX14_spend 294 = .ok (.iastore, 1) := dk_79 (dk_at dksX14_spend_12 12 rfl rfl)
theorem dX14_spend_295 : decode cX14_spend 295 = .ok (.aload_n 0, 1) := dk_42 (dk_at dksX14_spend_12 13 rfl rfl)
theorem dX14_spend_296 : decode cX14_spend 296 = .ok (.getfield 142, 3) := dk_180 0 142 (dk_at dksX14_spend_12 14 rfl rfl)
theorem dX14_spend_299 : decode cX14_spend 299 = .ok (.iconst 4, 1) := dk_7 (dk_at dksX14_spend_12 17 rfl rfl)
theorem dX14_spend_300 : decode cX14_spend 300 = .ok (.iload_n 3, 1) := dk_29 (dk_at dksX14_spend_12 18 rfl rfl)
theorem dX14_spend_301 : decode cX14_spend 301 = .ok (.imul, 1) := dk_104 (dk_at dksX14_spend_12 19 rfl rfl)
theorem dX14_spend_302 : decode cX14_spend 302 = .ok (.iconst 2, 1) := dk_5 (dk_at dksX14_spend_12 20 rfl rfl)
theorem dX14_spend_303 : decode cX14_spend 303 = .ok (.iadd, 1) := dk_96 (dk_at dksX14_spend_12 21 rfl rfl)
theorem dX14_spend_304 : decode cX14_spend 304 = .ok (.aload_n 0, 1) := dk_42 (dk_at dksX14_spend_12 22 rfl rfl)
theorem dX14_spend_305 : decode cX14_spend 305 = .ok (.invokevirtual 436, 3) := dk_182 1 180 (dk_at dksX14_spend_13 0 rfl rfl)
theorem dX14_spend_308 : decode cX14_spend 308 = .ok (.iastore, 1) := dk_79 (dk_at dksX14_spend_13 3 rfl rfl)
theorem dX14_spend_309 : decode cX14_spend 309 = .ok (.aload_n 0, 1) := dk_42 (dk_at dksX14_spend_13 4 rfl rfl)
theorem dX14_spend_310 : decode cX14_spend 310 = .ok (.getfield 142, 3) := dk_180 0 142 (dk_at dksX14_spend_13 5 rfl rfl)
theorem dX14_spend_313 : decode cX14_spend 313 = .ok (.iconst 4, 1) := dk_7 (dk_at dksX14_spend_13 8 rfl rfl)
theorem dX14_spend_314 : decode cX14_spend 314 = .ok (.iload_n 3, 1) := dk_29 (dk_at dksX14_spend_13 9 rfl rfl)
theorem dX14_spend_315 : decode cX14_spend 315 = .ok (.imul, 1) := dk_104 (dk_at dksX14_spend_13 10 rfl rfl)
theorem dX14_spend_316 : decode cX14_spend 316 = .ok (.iconst 3, 1) := dk_6 (dk_at dksX14_spend_13 11 rfl rfl)
theorem dX14_spend_317 : decode cX14_spend 317 = .ok (.iadd, 1) := dk_96 (dk_at dksX14_spend_13 12 rfl rfl)
theorem dX14_spend_318 : decode cX14_spend 318 = .ok (.aload_n 0, 1) := dk_42 (dk_at dksX14_spend_13 13 rfl rfl)
theorem dX14_spend_319 : decode cX14_spend 319 = .ok (.getfield 334, 3) := dk_180 1 78 (dk_at dksX14_spend_13 14 rfl rfl)
theorem dX14_spend_322 : decode cX14_spend 322 = .ok (.iastore, 1) := dk_79 (dk_at dksX14_spend_13 17 rfl rfl)
theorem dX14_spend_323 : decode cX14_spend 323 = .ok (.iinc 3 1, 3) := dk_132 3 1 (dk_at dksX14_spend_13 18 rfl rfl)
theorem dX14_spend_326 : decode cX14_spend 326 = .ok (.goto (-296), 3) := dk_167 254 216 (dk_at dksX14_spend_13 21 rfl rfl)
theorem dX14_spend_329 : decode cX14_spend 329 = .ok (.return_, 1) := dk_177 (dk_at dksX14_spend_14 0 rfl rfl)
abbrev cX14_sentence : ByteArray := prog_23_method_107_code
def yX14_sentence : MethodName := ⟨RX14, "sentence", "()I"⟩
def dkwX14_sentence_4 : List UInt8 := [27, 96, 42, 180, 0, 145, 27, 46, 79, 132, 1, 1, 167, 255, 230, 42, 180, 2, 6, 172]
abbrev dktX14_sentence_4 : List UInt8 := dkwX14_sentence_4 ++ []
def dkwX14_sentence_3 : List UInt8 := [17, 2, 29, 42, 180, 1, 253, 79, 3, 60, 27, 17, 0, 240, 162, 0, 25, 42, 180, 0, 13, 17, 2, 38]
abbrev dktX14_sentence_3 : List UInt8 := dkwX14_sentence_3 ++ dktX14_sentence_4
def dkwX14_sentence_2 : List UInt8 := [182, 0, 216, 87, 2, 42, 180, 0, 213, 100, 172, 42, 180, 0, 13, 17, 2, 28, 4, 79, 42, 180, 0, 13]
abbrev dktX14_sentence_2 : List UInt8 := dkwX14_sentence_2 ++ dktX14_sentence_3
def dkwX14_sentence_1 : List UInt8 := [182, 2, 21, 154, 0, 10, 2, 42, 180, 0, 213, 100, 172, 42, 180, 0, 170, 153, 0, 16, 42, 4]
abbrev dktX14_sentence_1 : List UInt8 := dkwX14_sentence_1 ++ dktX14_sentence_2
def dkwX14_sentence_0 : List UInt8 := [42, 17, 0, 200, 182, 1, 26, 42, 3, 181, 1, 247, 42, 3, 181, 2, 6, 42, 3, 181, 2, 9, 42]
abbrev dktX14_sentence_0 : List UInt8 := dkwX14_sentence_0 ++ dktX14_sentence_1
theorem dksX14_sentence_0 : cX14_sentence.data.toList.drop 0 = dktX14_sentence_0 := by decide +kernel
theorem dksX14_sentence_1 : cX14_sentence.data.toList.drop 23 = dktX14_sentence_1 := dk_seg dksX14_sentence_0 23 rfl rfl
theorem dksX14_sentence_2 : cX14_sentence.data.toList.drop 45 = dktX14_sentence_2 := dk_seg dksX14_sentence_1 22 rfl rfl
theorem dksX14_sentence_3 : cX14_sentence.data.toList.drop 69 = dktX14_sentence_3 := dk_seg dksX14_sentence_2 24 rfl rfl
theorem dksX14_sentence_4 : cX14_sentence.data.toList.drop 93 = dktX14_sentence_4 := dk_seg dksX14_sentence_3 24 rfl rfl
theorem dX14_sentence_0 : decode cX14_sentence 0 = .ok (.aload_n 0, 1) := dk_42 (dk_at dksX14_sentence_0 0 rfl rfl)
theorem dX14_sentence_1 : decode cX14_sentence 1 = .ok (.sipush 200, 3) := dk_17 0 200 (dk_at dksX14_sentence_0 1 rfl rfl)
theorem dX14_sentence_4 : decode cX14_sentence 4 = .ok (.invokevirtual 282, 3) := dk_182 1 26 (dk_at dksX14_sentence_0 4 rfl rfl)
theorem dX14_sentence_7 : decode cX14_sentence 7 = .ok (.aload_n 0, 1) := dk_42 (dk_at dksX14_sentence_0 7 rfl rfl)
theorem dX14_sentence_8 : decode cX14_sentence 8 = .ok (.iconst 0, 1) := dk_3 (dk_at dksX14_sentence_0 8 rfl rfl)
theorem dX14_sentence_9 : decode cX14_sentence 9 = .ok (.putfield 503, 3) := dk_181 1 247 (dk_at dksX14_sentence_0 9 rfl rfl)
theorem dX14_sentence_12 : decode cX14_sentence 12 = .ok (.aload_n 0, 1) := dk_42 (dk_at dksX14_sentence_0 12 rfl rfl)
theorem dX14_sentence_13 : decode cX14_sentence 13 = .ok (.iconst 0, 1) := dk_3 (dk_at dksX14_sentence_0 13 rfl rfl)
theorem dX14_sentence_14 : decode cX14_sentence 14 = .ok (.putfield 518, 3) := dk_181 2 6 (dk_at dksX14_sentence_0 14 rfl rfl)
theorem dX14_sentence_17 : decode cX14_sentence 17 = .ok (.aload_n 0, 1) := dk_42 (dk_at dksX14_sentence_0 17 rfl rfl)
theorem dX14_sentence_18 : decode cX14_sentence 18 = .ok (.iconst 0, 1) := dk_3 (dk_at dksX14_sentence_0 18 rfl rfl)
theorem dX14_sentence_19 : decode cX14_sentence 19 = .ok (.putfield 521, 3) := dk_181 2 9 (dk_at dksX14_sentence_0 19 rfl rfl)
theorem dX14_sentence_22 : decode cX14_sentence 22 = .ok (.aload_n 0, 1) := dk_42 (dk_at dksX14_sentence_0 22 rfl rfl)
theorem dX14_sentence_23 : decode cX14_sentence 23 = .ok (.invokevirtual 533, 3) := dk_182 2 21 (dk_at dksX14_sentence_1 0 rfl rfl)
theorem dX14_sentence_26 : decode cX14_sentence 26 = .ok (.ifCond .ne 10, 3) := dk_154 0 10 (dk_at dksX14_sentence_1 3 rfl rfl)
theorem dX14_sentence_29 : decode cX14_sentence 29 = .ok (.iconst (-1), 1) := dk_2 (dk_at dksX14_sentence_1 6 rfl rfl)
theorem dX14_sentence_30 : decode cX14_sentence 30 = .ok (.aload_n 0, 1) := dk_42 (dk_at dksX14_sentence_1 7 rfl rfl)
theorem dX14_sentence_31 : decode cX14_sentence 31 = .ok (.getfield 213, 3) := dk_180 0 213 (dk_at dksX14_sentence_1 8 rfl rfl)
theorem dX14_sentence_34 : decode cX14_sentence 34 = .ok (.isub, 1) := dk_100 (dk_at dksX14_sentence_1 11 rfl rfl)
theorem dX14_sentence_35 : decode cX14_sentence 35 = .ok (.ireturn, 1) := dk_172 (dk_at dksX14_sentence_1 12 rfl rfl)
theorem dX14_sentence_36 : decode cX14_sentence 36 = .ok (.aload_n 0, 1) := dk_42 (dk_at dksX14_sentence_1 13 rfl rfl)
theorem dX14_sentence_37 : decode cX14_sentence 37 = .ok (.getfield 170, 3) := dk_180 0 170 (dk_at dksX14_sentence_1 14 rfl rfl)
theorem dX14_sentence_40 : decode cX14_sentence 40 = .ok (.ifCond .eq 16, 3) := dk_153 0 16 (dk_at dksX14_sentence_1 17 rfl rfl)
theorem dX14_sentence_43 : decode cX14_sentence 43 = .ok (.aload_n 0, 1) := dk_42 (dk_at dksX14_sentence_1 20 rfl rfl)
theorem dX14_sentence_44 : decode cX14_sentence 44 = .ok (.iconst 1, 1) := dk_4 (dk_at dksX14_sentence_1 21 rfl rfl)
theorem dX14_sentence_45 : decode cX14_sentence 45 = .ok (.invokevirtual 216, 3) := dk_182 0 216 (dk_at dksX14_sentence_2 0 rfl rfl)
theorem dX14_sentence_48 : decode cX14_sentence 48 = .ok (.pop, 1) := dk_87 (dk_at dksX14_sentence_2 3 rfl rfl)
theorem dX14_sentence_49 : decode cX14_sentence 49 = .ok (.iconst (-1), 1) := dk_2 (dk_at dksX14_sentence_2 4 rfl rfl)
theorem dX14_sentence_50 : decode cX14_sentence 50 = .ok (.aload_n 0, 1) := dk_42 (dk_at dksX14_sentence_2 5 rfl rfl)
theorem dX14_sentence_51 : decode cX14_sentence 51 = .ok (.getfield 213, 3) := dk_180 0 213 (dk_at dksX14_sentence_2 6 rfl rfl)
theorem dX14_sentence_54 : decode cX14_sentence 54 = .ok (.isub, 1) := dk_100 (dk_at dksX14_sentence_2 9 rfl rfl)
theorem dX14_sentence_55 : decode cX14_sentence 55 = .ok (.ireturn, 1) := dk_172 (dk_at dksX14_sentence_2 10 rfl rfl)
theorem dX14_sentence_56 : decode cX14_sentence 56 = .ok (.aload_n 0, 1) := dk_42 (dk_at dksX14_sentence_2 11 rfl rfl)
theorem dX14_sentence_57 : decode cX14_sentence 57 = .ok (.getfield 13, 3) := dk_180 0 13 (dk_at dksX14_sentence_2 12 rfl rfl)
theorem dX14_sentence_60 : decode cX14_sentence 60 = .ok (.sipush 540, 3) := dk_17 2 28 (dk_at dksX14_sentence_2 15 rfl rfl)
theorem dX14_sentence_63 : decode cX14_sentence 63 = .ok (.iconst 1, 1) := dk_4 (dk_at dksX14_sentence_2 18 rfl rfl)
theorem dX14_sentence_64 : decode cX14_sentence 64 = .ok (.iastore, 1) := dk_79 (dk_at dksX14_sentence_2 19 rfl rfl)
theorem dX14_sentence_65 : decode cX14_sentence 65 = .ok (.aload_n 0, 1) := dk_42 (dk_at dksX14_sentence_2 20 rfl rfl)
theorem dX14_sentence_66 : decode cX14_sentence 66 = .ok (.getfield 13, 3) := dk_180 0 13 (dk_at dksX14_sentence_2 21 rfl rfl)
theorem dX14_sentence_69 : decode cX14_sentence 69 = .ok (.sipush 541, 3) := dk_17 2 29 (dk_at dksX14_sentence_3 0 rfl rfl)
theorem dX14_sentence_72 : decode cX14_sentence 72 = .ok (.aload_n 0, 1) := dk_42 (dk_at dksX14_sentence_3 3 rfl rfl)
theorem dX14_sentence_73 : decode cX14_sentence 73 = .ok (.getfield 509, 3) := dk_180 1 253 (dk_at dksX14_sentence_3 4 rfl rfl)
theorem dX14_sentence_76 : decode cX14_sentence 76 = .ok (.iastore, 1) := dk_79 (dk_at dksX14_sentence_3 7 rfl rfl)
theorem dX14_sentence_77 : decode cX14_sentence 77 = .ok (.iconst 0, 1) := dk_3 (dk_at dksX14_sentence_3 8 rfl rfl)
theorem dX14_sentence_78 : decode cX14_sentence 78 = .ok (.istore_n 1, 1) := dk_60 (dk_at dksX14_sentence_3 9 rfl rfl)
theorem dX14_sentence_79 : decode cX14_sentence 79 = .ok (.iload_n 1, 1) := dk_27 (dk_at dksX14_sentence_3 10 rfl rfl)
theorem dX14_sentence_80 : decode cX14_sentence 80 = .ok (.sipush 240, 3) := dk_17 0 240 (dk_at dksX14_sentence_3 11 rfl rfl)
theorem dX14_sentence_83 : decode cX14_sentence 83 = .ok (.if_icmp .ge 25, 3) := dk_162 0 25 (dk_at dksX14_sentence_3 14 rfl rfl)
theorem dX14_sentence_86 : decode cX14_sentence 86 = .ok (.aload_n 0, 1) := dk_42 (dk_at dksX14_sentence_3 17 rfl rfl)
theorem dX14_sentence_87 : decode cX14_sentence 87 = .ok (.getfield 13, 3) := dk_180 0 13 (dk_at dksX14_sentence_3 18 rfl rfl)
theorem dX14_sentence_90 : decode cX14_sentence 90 = .ok (.sipush 550, 3) := dk_17 2 38 (dk_at dksX14_sentence_3 21 rfl rfl)
theorem dX14_sentence_93 : decode cX14_sentence 93 = .ok (.iload_n 1, 1) := dk_27 (dk_at dksX14_sentence_4 0 rfl rfl)
theorem dX14_sentence_94 : decode cX14_sentence 94 = .ok (.iadd, 1) := dk_96 (dk_at dksX14_sentence_4 1 rfl rfl)
theorem dX14_sentence_95 : decode cX14_sentence 95 = .ok (.aload_n 0, 1) := dk_42 (dk_at dksX14_sentence_4 2 rfl rfl)
theorem dX14_sentence_96 : decode cX14_sentence 96 = .ok (.getfield 145, 3) := dk_180 0 145 (dk_at dksX14_sentence_4 3 rfl rfl)
theorem dX14_sentence_99 : decode cX14_sentence 99 = .ok (.iload_n 1, 1) := dk_27 (dk_at dksX14_sentence_4 6 rfl rfl)
theorem dX14_sentence_100 : decode cX14_sentence 100 = .ok (.iaload, 1) := dk_46 (dk_at dksX14_sentence_4 7 rfl rfl)
theorem dX14_sentence_101 : decode cX14_sentence 101 = .ok (.iastore, 1) := dk_79 (dk_at dksX14_sentence_4 8 rfl rfl)
theorem dX14_sentence_102 : decode cX14_sentence 102 = .ok (.iinc 1 1, 3) := dk_132 1 1 (dk_at dksX14_sentence_4 9 rfl rfl)
theorem dX14_sentence_105 : decode cX14_sentence 105 = .ok (.goto (-26), 3) := dk_167 255 230 (dk_at dksX14_sentence_4 12 rfl rfl)
theorem dX14_sentence_108 : decode cX14_sentence 108 = .ok (.aload_n 0, 1) := dk_42 (dk_at dksX14_sentence_4 15 rfl rfl)
theorem dX14_sentence_109 : decode cX14_sentence 109 = .ok (.getfield 518, 3) := dk_180 2 6 (dk_at dksX14_sentence_4 16 rfl rfl)
theorem dX14_sentence_112 : decode cX14_sentence 112 = .ok (.ireturn, 1) := dk_172 (dk_at dksX14_sentence_4 19 rfl rfl)
abbrev cX14_readOr : ByteArray := prog_23_method_101_code
def yX14_readOr : MethodName := ⟨RX14, "readOr", "()Z"⟩
def dkwX14_readOr_2 : List UInt8 := [167, 255, 222, 42, 27, 181, 1, 253, 4, 172]
abbrev dktX14_readOr_2 : List UInt8 := dkwX14_readOr_2 ++ []
def dkwX14_readOr_1 : List UInt8 := [182, 0, 226, 42, 182, 1, 250, 154, 0, 5, 3, 172, 42, 6, 27, 42, 180, 1, 253, 3, 182, 2, 0, 60]
abbrev dktX14_readOr_1 : List UInt8 := dkwX14_readOr_1 ++ dktX14_readOr_2
def dkwX14_readOr_0 : List UInt8 := [42, 182, 1, 250, 154, 0, 5, 3, 172, 42, 180, 1, 253, 60, 42, 16, 20, 182, 1, 8, 153, 0, 31, 42]
abbrev dktX14_readOr_0 : List UInt8 := dkwX14_readOr_0 ++ dktX14_readOr_1
theorem dksX14_readOr_0 : cX14_readOr.data.toList.drop 0 = dktX14_readOr_0 := by decide +kernel
theorem dksX14_readOr_1 : cX14_readOr.data.toList.drop 24 = dktX14_readOr_1 := dk_seg dksX14_readOr_0 24 rfl rfl
theorem dksX14_readOr_2 : cX14_readOr.data.toList.drop 48 = dktX14_readOr_2 := dk_seg dksX14_readOr_1 24 rfl rfl
theorem dX14_readOr_0 : decode cX14_readOr 0 = .ok (.aload_n 0, 1) := dk_42 (dk_at dksX14_readOr_0 0 rfl rfl)
theorem dX14_readOr_1 : decode cX14_readOr 1 = .ok (.invokevirtual 506, 3) := dk_182 1 250 (dk_at dksX14_readOr_0 1 rfl rfl)
theorem dX14_readOr_4 : decode cX14_readOr 4 = .ok (.ifCond .ne 5, 3) := dk_154 0 5 (dk_at dksX14_readOr_0 4 rfl rfl)
theorem dX14_readOr_7 : decode cX14_readOr 7 = .ok (.iconst 0, 1) := dk_3 (dk_at dksX14_readOr_0 7 rfl rfl)
theorem dX14_readOr_8 : decode cX14_readOr 8 = .ok (.ireturn, 1) := dk_172 (dk_at dksX14_readOr_0 8 rfl rfl)
theorem dX14_readOr_9 : decode cX14_readOr 9 = .ok (.aload_n 0, 1) := dk_42 (dk_at dksX14_readOr_0 9 rfl rfl)
theorem dX14_readOr_10 : decode cX14_readOr 10 = .ok (.getfield 509, 3) := dk_180 1 253 (dk_at dksX14_readOr_0 10 rfl rfl)
theorem dX14_readOr_13 : decode cX14_readOr 13 = .ok (.istore_n 1, 1) := dk_60 (dk_at dksX14_readOr_0 13 rfl rfl)
theorem dX14_readOr_14 : decode cX14_readOr 14 = .ok (.aload_n 0, 1) := dk_42 (dk_at dksX14_readOr_0 14 rfl rfl)
theorem dX14_readOr_15 : decode cX14_readOr 15 = .ok (.bipush 20, 2) := dk_16 20 (dk_at dksX14_readOr_0 15 rfl rfl)
theorem dX14_readOr_17 : decode cX14_readOr 17 = .ok (.invokevirtual 264, 3) := dk_182 1 8 (dk_at dksX14_readOr_0 17 rfl rfl)
theorem dX14_readOr_20 : decode cX14_readOr 20 = .ok (.ifCond .eq 31, 3) := dk_153 0 31 (dk_at dksX14_readOr_0 20 rfl rfl)
theorem dX14_readOr_23 : decode cX14_readOr 23 = .ok (.aload_n 0, 1) := dk_42 (dk_at dksX14_readOr_0 23 rfl rfl)
theorem dX14_readOr_24 : decode cX14_readOr 24 = .ok (.invokevirtual 226, 3) := dk_182 0 226 (dk_at dksX14_readOr_1 0 rfl rfl)
theorem dX14_readOr_27 : decode cX14_readOr 27 = .ok (.aload_n 0, 1) := dk_42 (dk_at dksX14_readOr_1 3 rfl rfl)
theorem dX14_readOr_28 : decode cX14_readOr 28 = .ok (.invokevirtual 506, 3) := dk_182 1 250 (dk_at dksX14_readOr_1 4 rfl rfl)
theorem dX14_readOr_31 : decode cX14_readOr 31 = .ok (.ifCond .ne 5, 3) := dk_154 0 5 (dk_at dksX14_readOr_1 7 rfl rfl)
theorem dX14_readOr_34 : decode cX14_readOr 34 = .ok (.iconst 0, 1) := dk_3 (dk_at dksX14_readOr_1 10 rfl rfl)
theorem dX14_readOr_35 : decode cX14_readOr 35 = .ok (.ireturn, 1) := dk_172 (dk_at dksX14_readOr_1 11 rfl rfl)
theorem dX14_readOr_36 : decode cX14_readOr 36 = .ok (.aload_n 0, 1) := dk_42 (dk_at dksX14_readOr_1 12 rfl rfl)
theorem dX14_readOr_37 : decode cX14_readOr 37 = .ok (.iconst 3, 1) := dk_6 (dk_at dksX14_readOr_1 13 rfl rfl)
theorem dX14_readOr_38 : decode cX14_readOr 38 = .ok (.iload_n 1, 1) := dk_27 (dk_at dksX14_readOr_1 14 rfl rfl)
theorem dX14_readOr_39 : decode cX14_readOr 39 = .ok (.aload_n 0, 1) := dk_42 (dk_at dksX14_readOr_1 15 rfl rfl)
theorem dX14_readOr_40 : decode cX14_readOr 40 = .ok (.getfield 509, 3) := dk_180 1 253 (dk_at dksX14_readOr_1 16 rfl rfl)
theorem dX14_readOr_43 : decode cX14_readOr 43 = .ok (.iconst 0, 1) := dk_3 (dk_at dksX14_readOr_1 19 rfl rfl)
theorem dX14_readOr_44 : decode cX14_readOr 44 = .ok (.invokevirtual 512, 3) := dk_182 2 0 (dk_at dksX14_readOr_1 20 rfl rfl)
theorem dX14_readOr_47 : decode cX14_readOr 47 = .ok (.istore_n 1, 1) := dk_60 (dk_at dksX14_readOr_1 23 rfl rfl)
theorem dX14_readOr_48 : decode cX14_readOr 48 = .ok (.goto (-34), 3) := dk_167 255 222 (dk_at dksX14_readOr_2 0 rfl rfl)
theorem dX14_readOr_51 : decode cX14_readOr 51 = .ok (.aload_n 0, 1) := dk_42 (dk_at dksX14_readOr_2 3 rfl rfl)
theorem dX14_readOr_52 : decode cX14_readOr 52 = .ok (.iload_n 1, 1) := dk_27 (dk_at dksX14_readOr_2 4 rfl rfl)
theorem dX14_readOr_53 : decode cX14_readOr 53 = .ok (.putfield 509, 3) := dk_181 1 253 (dk_at dksX14_readOr_2 5 rfl rfl)
theorem dX14_readOr_56 : decode cX14_readOr 56 = .ok (.iconst 1, 1) := dk_4 (dk_at dksX14_readOr_2 8 rfl rfl)
theorem dX14_readOr_57 : decode cX14_readOr 57 = .ok (.ireturn, 1) := dk_172 (dk_at dksX14_readOr_2 9 rfl rfl)
abbrev cX14_readAnd : ByteArray := prog_23_method_102_code
def yX14_readAnd : MethodName := ⟨RX14, "readAnd", "()Z"⟩
def dkwX14_readAnd_2 : List UInt8 := [167, 255, 222, 42, 27, 181, 1, 253, 4, 172]
abbrev dktX14_readAnd_2 : List UInt8 := dkwX14_readAnd_2 ++ []
def dkwX14_readAnd_1 : List UInt8 := [182, 0, 226, 42, 182, 2, 3, 154, 0, 5, 3, 172, 42, 5, 27, 42, 180, 1, 253, 3, 182, 2, 0, 60]
abbrev dktX14_readAnd_1 : List UInt8 := dkwX14_readAnd_1 ++ dktX14_readAnd_2
def dkwX14_readAnd_0 : List UInt8 := [42, 182, 2, 3, 154, 0, 5, 3, 172, 42, 180, 1, 253, 60, 42, 16, 21, 182, 1, 8, 153, 0, 31, 42]
abbrev dktX14_readAnd_0 : List UInt8 := dkwX14_readAnd_0 ++ dktX14_readAnd_1
theorem dksX14_readAnd_0 : cX14_readAnd.data.toList.drop 0 = dktX14_readAnd_0 := by decide +kernel
theorem dksX14_readAnd_1 : cX14_readAnd.data.toList.drop 24 = dktX14_readAnd_1 := dk_seg dksX14_readAnd_0 24 rfl rfl
theorem dksX14_readAnd_2 : cX14_readAnd.data.toList.drop 48 = dktX14_readAnd_2 := dk_seg dksX14_readAnd_1 24 rfl rfl
theorem dX14_readAnd_0 : decode cX14_readAnd 0 = .ok (.aload_n 0, 1) := dk_42 (dk_at dksX14_readAnd_0 0 rfl rfl)
theorem dX14_readAnd_1 : decode cX14_readAnd 1 = .ok (.invokevirtual 515, 3) := dk_182 2 3 (dk_at dksX14_readAnd_0 1 rfl rfl)
theorem dX14_readAnd_4 : decode cX14_readAnd 4 = .ok (.ifCond .ne 5, 3) := dk_154 0 5 (dk_at dksX14_readAnd_0 4 rfl rfl)
theorem dX14_readAnd_7 : decode cX14_readAnd 7 = .ok (.iconst 0, 1) := dk_3 (dk_at dksX14_readAnd_0 7 rfl rfl)
theorem dX14_readAnd_8 : decode cX14_readAnd 8 = .ok (.ireturn, 1) := dk_172 (dk_at dksX14_readAnd_0 8 rfl rfl)
theorem dX14_readAnd_9 : decode cX14_readAnd 9 = .ok (.aload_n 0, 1) := dk_42 (dk_at dksX14_readAnd_0 9 rfl rfl)
theorem dX14_readAnd_10 : decode cX14_readAnd 10 = .ok (.getfield 509, 3) := dk_180 1 253 (dk_at dksX14_readAnd_0 10 rfl rfl)
theorem dX14_readAnd_13 : decode cX14_readAnd 13 = .ok (.istore_n 1, 1) := dk_60 (dk_at dksX14_readAnd_0 13 rfl rfl)
theorem dX14_readAnd_14 : decode cX14_readAnd 14 = .ok (.aload_n 0, 1) := dk_42 (dk_at dksX14_readAnd_0 14 rfl rfl)
theorem dX14_readAnd_15 : decode cX14_readAnd 15 = .ok (.bipush 21, 2) := dk_16 21 (dk_at dksX14_readAnd_0 15 rfl rfl)
theorem dX14_readAnd_17 : decode cX14_readAnd 17 = .ok (.invokevirtual 264, 3) := dk_182 1 8 (dk_at dksX14_readAnd_0 17 rfl rfl)
theorem dX14_readAnd_20 : decode cX14_readAnd 20 = .ok (.ifCond .eq 31, 3) := dk_153 0 31 (dk_at dksX14_readAnd_0 20 rfl rfl)
theorem dX14_readAnd_23 : decode cX14_readAnd 23 = .ok (.aload_n 0, 1) := dk_42 (dk_at dksX14_readAnd_0 23 rfl rfl)
theorem dX14_readAnd_24 : decode cX14_readAnd 24 = .ok (.invokevirtual 226, 3) := dk_182 0 226 (dk_at dksX14_readAnd_1 0 rfl rfl)
theorem dX14_readAnd_27 : decode cX14_readAnd 27 = .ok (.aload_n 0, 1) := dk_42 (dk_at dksX14_readAnd_1 3 rfl rfl)
theorem dX14_readAnd_28 : decode cX14_readAnd 28 = .ok (.invokevirtual 515, 3) := dk_182 2 3 (dk_at dksX14_readAnd_1 4 rfl rfl)
theorem dX14_readAnd_31 : decode cX14_readAnd 31 = .ok (.ifCond .ne 5, 3) := dk_154 0 5 (dk_at dksX14_readAnd_1 7 rfl rfl)
theorem dX14_readAnd_34 : decode cX14_readAnd 34 = .ok (.iconst 0, 1) := dk_3 (dk_at dksX14_readAnd_1 10 rfl rfl)
theorem dX14_readAnd_35 : decode cX14_readAnd 35 = .ok (.ireturn, 1) := dk_172 (dk_at dksX14_readAnd_1 11 rfl rfl)
theorem dX14_readAnd_36 : decode cX14_readAnd 36 = .ok (.aload_n 0, 1) := dk_42 (dk_at dksX14_readAnd_1 12 rfl rfl)
theorem dX14_readAnd_37 : decode cX14_readAnd 37 = .ok (.iconst 2, 1) := dk_5 (dk_at dksX14_readAnd_1 13 rfl rfl)
theorem dX14_readAnd_38 : decode cX14_readAnd 38 = .ok (.iload_n 1, 1) := dk_27 (dk_at dksX14_readAnd_1 14 rfl rfl)
theorem dX14_readAnd_39 : decode cX14_readAnd 39 = .ok (.aload_n 0, 1) := dk_42 (dk_at dksX14_readAnd_1 15 rfl rfl)
theorem dX14_readAnd_40 : decode cX14_readAnd 40 = .ok (.getfield 509, 3) := dk_180 1 253 (dk_at dksX14_readAnd_1 16 rfl rfl)
theorem dX14_readAnd_43 : decode cX14_readAnd 43 = .ok (.iconst 0, 1) := dk_3 (dk_at dksX14_readAnd_1 19 rfl rfl)
theorem dX14_readAnd_44 : decode cX14_readAnd 44 = .ok (.invokevirtual 512, 3) := dk_182 2 0 (dk_at dksX14_readAnd_1 20 rfl rfl)
theorem dX14_readAnd_47 : decode cX14_readAnd 47 = .ok (.istore_n 1, 1) := dk_60 (dk_at dksX14_readAnd_1 23 rfl rfl)
theorem dX14_readAnd_48 : decode cX14_readAnd 48 = .ok (.goto (-34), 3) := dk_167 255 222 (dk_at dksX14_readAnd_2 0 rfl rfl)
theorem dX14_readAnd_51 : decode cX14_readAnd 51 = .ok (.aload_n 0, 1) := dk_42 (dk_at dksX14_readAnd_2 3 rfl rfl)
theorem dX14_readAnd_52 : decode cX14_readAnd 52 = .ok (.iload_n 1, 1) := dk_27 (dk_at dksX14_readAnd_2 4 rfl rfl)
theorem dX14_readAnd_53 : decode cX14_readAnd 53 = .ok (.putfield 509, 3) := dk_181 1 253 (dk_at dksX14_readAnd_2 5 rfl rfl)
theorem dX14_readAnd_56 : decode cX14_readAnd 56 = .ok (.iconst 1, 1) := dk_4 (dk_at dksX14_readAnd_2 8 rfl rfl)
theorem dX14_readAnd_57 : decode cX14_readAnd 57 = .ok (.ireturn, 1) := dk_172 (dk_at dksX14_readAnd_2 9 rfl rfl)
abbrev cX14_readOne : ByteArray := prog_23_method_103_code
def yX14_readOne : MethodName := ⟨RX14, "readOne", "()Z"⟩
def dkwX14_readOne_6 : List UInt8 := [42, 28, 182, 2, 18, 62, 42, 89, 180, 2, 9, 4, 100, 181, 2, 9, 29, 172]
abbrev dktX14_readOne_6 : List UInt8 := dkwX14_readOne_6 ++ []
def dkwX14_readOne_5 : List UInt8 := [167, 0, 30, 28, 16, 23, 160, 0, 18, 42, 42, 7, 3, 3, 3, 182, 2, 0, 181, 1, 253, 167, 0, 9]
abbrev dktX14_readOne_5 : List UInt8 := dkwX14_readOne_5 ++ dktX14_readOne_6
def dkwX14_readOne_4 : List UInt8 := [62, 27, 153, 0, 11, 42, 182, 2, 12, 62, 167, 0, 44, 28, 16, 22, 160, 0, 11, 42, 182, 2, 15, 62]
abbrev dktX14_readOne_4 : List UInt8 := dkwX14_readOne_4 ++ dktX14_readOne_5
def dkwX14_readOne_3 : List UInt8 := [89, 180, 2, 6, 4, 96, 181, 2, 6, 42, 89, 180, 2, 9, 4, 96, 181, 2, 9, 42, 182, 0, 226, 4]
abbrev dktX14_readOne_3 : List UInt8 := dkwX14_readOne_3 ++ dktX14_readOne_4
def dkwX14_readOne_2 : List UInt8 := [180, 2, 6, 16, 20, 159, 0, 12, 42, 180, 2, 9, 16, 8, 160, 0, 9, 42, 7, 182, 0, 216, 172, 42]
abbrev dktX14_readOne_2 : List UInt8 := dkwX14_readOne_2 ++ dktX14_readOne_3
def dkwX14_readOne_1 : List UInt8 := [132, 2, 1, 167, 255, 239, 27, 154, 0, 15, 28, 16, 28, 164, 0, 9, 42, 4, 182, 0, 216, 172, 42]
abbrev dktX14_readOne_1 : List UInt8 := dkwX14_readOne_1 ++ dktX14_readOne_2
def dkwX14_readOne_0 : List UInt8 := [42, 16, 40, 182, 0, 229, 60, 16, 22, 61, 28, 16, 28, 163, 0, 17, 42, 28, 182, 1, 8, 154, 0, 9]
abbrev dktX14_readOne_0 : List UInt8 := dkwX14_readOne_0 ++ dktX14_readOne_1
theorem dksX14_readOne_0 : cX14_readOne.data.toList.drop 0 = dktX14_readOne_0 := by decide +kernel
theorem dksX14_readOne_1 : cX14_readOne.data.toList.drop 24 = dktX14_readOne_1 := dk_seg dksX14_readOne_0 24 rfl rfl
theorem dksX14_readOne_2 : cX14_readOne.data.toList.drop 47 = dktX14_readOne_2 := dk_seg dksX14_readOne_1 23 rfl rfl
theorem dksX14_readOne_3 : cX14_readOne.data.toList.drop 71 = dktX14_readOne_3 := dk_seg dksX14_readOne_2 24 rfl rfl
theorem dksX14_readOne_4 : cX14_readOne.data.toList.drop 95 = dktX14_readOne_4 := dk_seg dksX14_readOne_3 24 rfl rfl
theorem dksX14_readOne_5 : cX14_readOne.data.toList.drop 119 = dktX14_readOne_5 := dk_seg dksX14_readOne_4 24 rfl rfl
theorem dksX14_readOne_6 : cX14_readOne.data.toList.drop 143 = dktX14_readOne_6 := dk_seg dksX14_readOne_5 24 rfl rfl
theorem dX14_readOne_0 : decode cX14_readOne 0 = .ok (.aload_n 0, 1) := dk_42 (dk_at dksX14_readOne_0 0 rfl rfl)
theorem dX14_readOne_1 : decode cX14_readOne 1 = .ok (.bipush 40, 2) := dk_16 40 (dk_at dksX14_readOne_0 1 rfl rfl)
theorem dX14_readOne_3 : decode cX14_readOne 3 = .ok (.invokevirtual 229, 3) := dk_182 0 229 (dk_at dksX14_readOne_0 3 rfl rfl)
theorem dX14_readOne_6 : decode cX14_readOne 6 = .ok (.istore_n 1, 1) := dk_60 (dk_at dksX14_readOne_0 6 rfl rfl)
theorem dX14_readOne_7 : decode cX14_readOne 7 = .ok (.bipush 22, 2) := dk_16 22 (dk_at dksX14_readOne_0 7 rfl rfl)
theorem dX14_readOne_9 : decode cX14_readOne 9 = .ok (.istore_n 2, 1) := dk_61 (dk_at dksX14_readOne_0 9 rfl rfl)
theorem dX14_readOne_10 : decode cX14_readOne 10 = .ok (.iload_n 2, 1) := dk_28 (dk_at dksX14_readOne_0 10 rfl rfl)
theorem dX14_readOne_11 : decode cX14_readOne 11 = .ok (.bipush 28, 2) := dk_16 28 (dk_at dksX14_readOne_0 11 rfl rfl)
theorem dX14_readOne_13 : decode cX14_readOne 13 = .ok (.if_icmp .gt 17, 3) := dk_163 0 17 (dk_at dksX14_readOne_0 13 rfl rfl)
theorem dX14_readOne_16 : decode cX14_readOne 16 = .ok (.aload_n 0, 1) := dk_42 (dk_at dksX14_readOne_0 16 rfl rfl)
theorem dX14_readOne_17 : decode cX14_readOne 17 = .ok (.iload_n 2, 1) := dk_28 (dk_at dksX14_readOne_0 17 rfl rfl)
theorem dX14_readOne_18 : decode cX14_readOne 18 = .ok (.invokevirtual 264, 3) := dk_182 1 8 (dk_at dksX14_readOne_0 18 rfl rfl)
theorem dX14_readOne_21 : decode cX14_readOne 21 = .ok (.ifCond .ne 9, 3) := dk_154 0 9 (dk_at dksX14_readOne_0 21 rfl rfl)
theorem dX14_readOne_24 : decode cX14_readOne 24 = .ok (.iinc 2 1, 3) := dk_132 2 1 (dk_at dksX14_readOne_1 0 rfl rfl)
theorem dX14_readOne_27 : decode cX14_readOne 27 = .ok (.goto (-17), 3) := dk_167 255 239 (dk_at dksX14_readOne_1 3 rfl rfl)
theorem dX14_readOne_30 : decode cX14_readOne 30 = .ok (.iload_n 1, 1) := dk_27 (dk_at dksX14_readOne_1 6 rfl rfl)
theorem dX14_readOne_31 : decode cX14_readOne 31 = .ok (.ifCond .ne 15, 3) := dk_154 0 15 (dk_at dksX14_readOne_1 7 rfl rfl)
theorem dX14_readOne_34 : decode cX14_readOne 34 = .ok (.iload_n 2, 1) := dk_28 (dk_at dksX14_readOne_1 10 rfl rfl)
theorem dX14_readOne_35 : decode cX14_readOne 35 = .ok (.bipush 28, 2) := dk_16 28 (dk_at dksX14_readOne_1 11 rfl rfl)
theorem dX14_readOne_37 : decode cX14_readOne 37 = .ok (.if_icmp .le 9, 3) := dk_164 0 9 (dk_at dksX14_readOne_1 13 rfl rfl)
theorem dX14_readOne_40 : decode cX14_readOne 40 = .ok (.aload_n 0, 1) := dk_42 (dk_at dksX14_readOne_1 16 rfl rfl)
theorem dX14_readOne_41 : decode cX14_readOne 41 = .ok (.iconst 1, 1) := dk_4 (dk_at dksX14_readOne_1 17 rfl rfl)
theorem dX14_readOne_42 : decode cX14_readOne 42 = .ok (.invokevirtual 216, 3) := dk_182 0 216 (dk_at dksX14_readOne_1 18 rfl rfl)
theorem dX14_readOne_45 : decode cX14_readOne 45 = .ok (.ireturn, 1) := dk_172 (dk_at dksX14_readOne_1 21 rfl rfl)
theorem dX14_readOne_46 : decode cX14_readOne 46 = .ok (.aload_n 0, 1) := dk_42 (dk_at dksX14_readOne_1 22 rfl rfl)
theorem dX14_readOne_47 : decode cX14_readOne 47 = .ok (.getfield 518, 3) := dk_180 2 6 (dk_at dksX14_readOne_2 0 rfl rfl)
theorem dX14_readOne_50 : decode cX14_readOne 50 = .ok (.bipush 20, 2) := dk_16 20 (dk_at dksX14_readOne_2 3 rfl rfl)
theorem dX14_readOne_52 : decode cX14_readOne 52 = .ok (.if_icmp .eq 12, 3) := dk_159 0 12 (dk_at dksX14_readOne_2 5 rfl rfl)
theorem dX14_readOne_55 : decode cX14_readOne 55 = .ok (.aload_n 0, 1) := dk_42 (dk_at dksX14_readOne_2 8 rfl rfl)
theorem dX14_readOne_56 : decode cX14_readOne 56 = .ok (.getfield 521, 3) := dk_180 2 9 (dk_at dksX14_readOne_2 9 rfl rfl)
theorem dX14_readOne_59 : decode cX14_readOne 59 = .ok (.bipush 8, 2) := dk_16 8 (dk_at dksX14_readOne_2 12 rfl rfl)
theorem dX14_readOne_61 : decode cX14_readOne 61 = .ok (.if_icmp .ne 9, 3) := dk_160 0 9 (dk_at dksX14_readOne_2 14 rfl rfl)
theorem dX14_readOne_64 : decode cX14_readOne 64 = .ok (.aload_n 0, 1) := dk_42 (dk_at dksX14_readOne_2 17 rfl rfl)
theorem dX14_readOne_65 : decode cX14_readOne 65 = .ok (.iconst 4, 1) := dk_7 (dk_at dksX14_readOne_2 18 rfl rfl)
theorem dX14_readOne_66 : decode cX14_readOne 66 = .ok (.invokevirtual 216, 3) := dk_182 0 216 (dk_at dksX14_readOne_2 19 rfl rfl)
theorem dX14_readOne_69 : decode cX14_readOne 69 = .ok (.ireturn, 1) := dk_172 (dk_at dksX14_readOne_2 22 rfl rfl)
theorem dX14_readOne_70 : decode cX14_readOne 70 = .ok (.aload_n 0, 1) := dk_42 (dk_at dksX14_readOne_2 23 rfl rfl)
theorem dX14_readOne_71 : decode cX14_readOne 71 = .ok (.dup, 1) := dk_89 (dk_at dksX14_readOne_3 0 rfl rfl)
theorem dX14_readOne_72 : decode cX14_readOne 72 = .ok (.getfield 518, 3) := dk_180 2 6 (dk_at dksX14_readOne_3 1 rfl rfl)
theorem dX14_readOne_75 : decode cX14_readOne 75 = .ok (.iconst 1, 1) := dk_4 (dk_at dksX14_readOne_3 4 rfl rfl)
theorem dX14_readOne_76 : decode cX14_readOne 76 = .ok (.iadd, 1) := dk_96 (dk_at dksX14_readOne_3 5 rfl rfl)
theorem dX14_readOne_77 : decode cX14_readOne 77 = .ok (.putfield 518, 3) := dk_181 2 6 (dk_at dksX14_readOne_3 6 rfl rfl)
theorem dX14_readOne_80 : decode cX14_readOne 80 = .ok (.aload_n 0, 1) := dk_42 (dk_at dksX14_readOne_3 9 rfl rfl)
theorem dX14_readOne_81 : decode cX14_readOne 81 = .ok (.dup, 1) := dk_89 (dk_at dksX14_readOne_3 10 rfl rfl)
theorem dX14_readOne_82 : decode cX14_readOne 82 = .ok (.getfield 521, 3) := dk_180 2 9 (dk_at dksX14_readOne_3 11 rfl rfl)
theorem dX14_readOne_85 : decode cX14_readOne 85 = .ok (.iconst 1, 1) := dk_4 (dk_at dksX14_readOne_3 14 rfl rfl)
theorem dX14_readOne_86 : decode cX14_readOne 86 = .ok (.iadd, 1) := dk_96 (dk_at dksX14_readOne_3 15 rfl rfl)
theorem dX14_readOne_87 : decode cX14_readOne 87 = .ok (.putfield 521, 3) := dk_181 2 9 (dk_at dksX14_readOne_3 16 rfl rfl)
theorem dX14_readOne_90 : decode cX14_readOne 90 = .ok (.aload_n 0, 1) := dk_42 (dk_at dksX14_readOne_3 19 rfl rfl)
theorem dX14_readOne_91 : decode cX14_readOne 91 = .ok (.invokevirtual 226, 3) := dk_182 0 226 (dk_at dksX14_readOne_3 20 rfl rfl)
theorem dX14_readOne_94 : decode cX14_readOne 94 = .ok (.iconst 1, 1) := dk_4 (dk_at dksX14_readOne_3 23 rfl rfl)
theorem dX14_readOne_95 : decode cX14_readOne 95 = .ok (.istore_n 3, 1) := dk_62 (dk_at dksX14_readOne_4 0 rfl rfl)
theorem dX14_readOne_96 : decode cX14_readOne 96 = .ok (.iload_n 1, 1) := dk_27 (dk_at dksX14_readOne_4 1 rfl rfl)
theorem dX14_readOne_97 : decode cX14_readOne 97 = .ok (.ifCond .eq 11, 3) := dk_153 0 11 (dk_at dksX14_readOne_4 2 rfl rfl)
theorem dX14_readOne_100 : decode cX14_readOne 100 = .ok (.aload_n 0, 1) := dk_42 (dk_at dksX14_readOne_4 5 rfl rfl)
theorem dX14_readOne_101 : decode cX14_readOne 101 = .ok (.invokevirtual 524, 3) := dk_182 2 12 (dk_at dksX14_readOne_4 6 rfl rfl)
theorem dX14_readOne_104 : decode cX14_readOne 104 = .ok (.istore_n 3, 1) := dk_62 (dk_at dksX14_readOne_4 9 rfl rfl)
theorem dX14_readOne_105 : decode cX14_readOne 105 = .ok (.goto 44, 3) := dk_167 0 44 (dk_at dksX14_readOne_4 10 rfl rfl)
theorem dX14_readOne_108 : decode cX14_readOne 108 = .ok (.iload_n 2, 1) := dk_28 (dk_at dksX14_readOne_4 13 rfl rfl)
theorem dX14_readOne_109 : decode cX14_readOne 109 = .ok (.bipush 22, 2) := dk_16 22 (dk_at dksX14_readOne_4 14 rfl rfl)
theorem dX14_readOne_111 : decode cX14_readOne 111 = .ok (.if_icmp .ne 11, 3) := dk_160 0 11 (dk_at dksX14_readOne_4 16 rfl rfl)
theorem dX14_readOne_114 : decode cX14_readOne 114 = .ok (.aload_n 0, 1) := dk_42 (dk_at dksX14_readOne_4 19 rfl rfl)
theorem dX14_readOne_115 : decode cX14_readOne 115 = .ok (.invokevirtual 527, 3) := dk_182 2 15 (dk_at dksX14_readOne_4 20 rfl rfl)
theorem dX14_readOne_118 : decode cX14_readOne 118 = .ok (.istore_n 3, 1) := dk_62 (dk_at dksX14_readOne_4 23 rfl rfl)
theorem dX14_readOne_119 : decode cX14_readOne 119 = .ok (.goto 30, 3) := dk_167 0 30 (dk_at dksX14_readOne_5 0 rfl rfl)
theorem dX14_readOne_122 : decode cX14_readOne 122 = .ok (.iload_n 2, 1) := dk_28 (dk_at dksX14_readOne_5 3 rfl rfl)
theorem dX14_readOne_123 : decode cX14_readOne 123 = .ok (.bipush 23, 2) := dk_16 23 (dk_at dksX14_readOne_5 4 rfl rfl)
theorem dX14_readOne_125 : decode cX14_readOne 125 = .ok (.if_icmp .ne 18, 3) := dk_160 0 18 (dk_at dksX14_readOne_5 6 rfl rfl)
theorem dX14_readOne_128 : decode cX14_readOne 128 = .ok (.aload_n 0, 1) := dk_42 (dk_at dksX14_readOne_5 9 rfl rfl)
theorem dX14_readOne_129 : decode cX14_readOne 129 = .ok (.aload_n 0, 1) := dk_42 (dk_at dksX14_readOne_5 10 rfl rfl)
theorem dX14_readOne_130 : decode cX14_readOne 130 = .ok (.iconst 4, 1) := dk_7 (dk_at dksX14_readOne_5 11 rfl rfl)
theorem dX14_readOne_131 : decode cX14_readOne 131 = .ok (.iconst 0, 1) := dk_3 (dk_at dksX14_readOne_5 12 rfl rfl)
theorem dX14_readOne_132 : decode cX14_readOne 132 = .ok (.iconst 0, 1) := dk_3 (dk_at dksX14_readOne_5 13 rfl rfl)
theorem dX14_readOne_133 : decode cX14_readOne 133 = .ok (.iconst 0, 1) := dk_3 (dk_at dksX14_readOne_5 14 rfl rfl)
theorem dX14_readOne_134 : decode cX14_readOne 134 = .ok (.invokevirtual 512, 3) := dk_182 2 0 (dk_at dksX14_readOne_5 15 rfl rfl)
theorem dX14_readOne_137 : decode cX14_readOne 137 = .ok (.putfield 509, 3) := dk_181 1 253 (dk_at dksX14_readOne_5 18 rfl rfl)
theorem dX14_readOne_140 : decode cX14_readOne 140 = .ok (.goto 9, 3) := dk_167 0 9 (dk_at dksX14_readOne_5 21 rfl rfl)
theorem dX14_readOne_143 : decode cX14_readOne 143 = .ok (.aload_n 0, 1) := dk_42 (dk_at dksX14_readOne_6 0 rfl rfl)
theorem dX14_readOne_144 : decode cX14_readOne 144 = .ok (.iload_n 2, 1) := dk_28 (dk_at dksX14_readOne_6 1 rfl rfl)
theorem dX14_readOne_145 : decode cX14_readOne 145 = .ok (.invokevirtual 530, 3) := dk_182 2 18 (dk_at dksX14_readOne_6 2 rfl rfl)
theorem dX14_readOne_148 : decode cX14_readOne 148 = .ok (.istore_n 3, 1) := dk_62 (dk_at dksX14_readOne_6 5 rfl rfl)
theorem dX14_readOne_149 : decode cX14_readOne 149 = .ok (.aload_n 0, 1) := dk_42 (dk_at dksX14_readOne_6 6 rfl rfl)
theorem dX14_readOne_150 : decode cX14_readOne 150 = .ok (.dup, 1) := dk_89 (dk_at dksX14_readOne_6 7 rfl rfl)
theorem dX14_readOne_151 : decode cX14_readOne 151 = .ok (.getfield 521, 3) := dk_180 2 9 (dk_at dksX14_readOne_6 8 rfl rfl)
theorem dX14_readOne_154 : decode cX14_readOne 154 = .ok (.iconst 1, 1) := dk_4 (dk_at dksX14_readOne_6 11 rfl rfl)
theorem dX14_readOne_155 : decode cX14_readOne 155 = .ok (.isub, 1) := dk_100 (dk_at dksX14_readOne_6 12 rfl rfl)
theorem dX14_readOne_156 : decode cX14_readOne 156 = .ok (.putfield 521, 3) := dk_181 2 9 (dk_at dksX14_readOne_6 13 rfl rfl)
theorem dX14_readOne_159 : decode cX14_readOne 159 = .ok (.iload_n 3, 1) := dk_29 (dk_at dksX14_readOne_6 16 rfl rfl)
theorem dX14_readOne_160 : decode cX14_readOne 160 = .ok (.ireturn, 1) := dk_172 (dk_at dksX14_readOne_6 17 rfl rfl)
abbrev cX14_readBracket : ByteArray := prog_23_method_105_code
def yX14_readBracket : MethodName := ⟨RX14, "readBracket", "()Z"⟩
def dkwX14_readBracket_1 : List UInt8 := [42, 182, 0, 226, 4, 172]
abbrev dktX14_readBracket_1 : List UInt8 := dkwX14_readBracket_1 ++ []
def dkwX14_readBracket_0 : List UInt8 := [42, 182, 2, 21, 154, 0, 5, 3, 172, 42, 16, 41, 182, 0, 229, 154, 0, 9, 42, 4, 182, 0, 216, 172]
abbrev dktX14_readBracket_0 : List UInt8 := dkwX14_readBracket_0 ++ dktX14_readBracket_1
theorem dksX14_readBracket_0 : cX14_readBracket.data.toList.drop 0 = dktX14_readBracket_0 := by decide +kernel
theorem dksX14_readBracket_1 : cX14_readBracket.data.toList.drop 24 = dktX14_readBracket_1 := dk_seg dksX14_readBracket_0 24 rfl rfl
theorem dX14_readBracket_0 : decode cX14_readBracket 0 = .ok (.aload_n 0, 1) := dk_42 (dk_at dksX14_readBracket_0 0 rfl rfl)
theorem dX14_readBracket_1 : decode cX14_readBracket 1 = .ok (.invokevirtual 533, 3) := dk_182 2 21 (dk_at dksX14_readBracket_0 1 rfl rfl)
theorem dX14_readBracket_4 : decode cX14_readBracket 4 = .ok (.ifCond .ne 5, 3) := dk_154 0 5 (dk_at dksX14_readBracket_0 4 rfl rfl)
theorem dX14_readBracket_7 : decode cX14_readBracket 7 = .ok (.iconst 0, 1) := dk_3 (dk_at dksX14_readBracket_0 7 rfl rfl)
theorem dX14_readBracket_8 : decode cX14_readBracket 8 = .ok (.ireturn, 1) := dk_172 (dk_at dksX14_readBracket_0 8 rfl rfl)
theorem dX14_readBracket_9 : decode cX14_readBracket 9 = .ok (.aload_n 0, 1) := dk_42 (dk_at dksX14_readBracket_0 9 rfl rfl)
theorem dX14_readBracket_10 : decode cX14_readBracket 10 = .ok (.bipush 41, 2) := dk_16 41 (dk_at dksX14_readBracket_0 10 rfl rfl)
theorem dX14_readBracket_12 : decode cX14_readBracket 12 = .ok (.invokevirtual 229, 3) := dk_182 0 229 (dk_at dksX14_readBracket_0 12 rfl rfl)
theorem dX14_readBracket_15 : decode cX14_readBracket 15 = .ok (.ifCond .ne 9, 3) := dk_154 0 9 (dk_at dksX14_readBracket_0 15 rfl rfl)
theorem dX14_readBracket_18 : decode cX14_readBracket 18 = .ok (.aload_n 0, 1) := dk_42 (dk_at dksX14_readBracket_0 18 rfl rfl)
theorem dX14_readBracket_19 : decode cX14_readBracket 19 = .ok (.iconst 1, 1) := dk_4 (dk_at dksX14_readBracket_0 19 rfl rfl)
theorem dX14_readBracket_20 : decode cX14_readBracket 20 = .ok (.invokevirtual 216, 3) := dk_182 0 216 (dk_at dksX14_readBracket_0 20 rfl rfl)
theorem dX14_readBracket_23 : decode cX14_readBracket 23 = .ok (.ireturn, 1) := dk_172 (dk_at dksX14_readBracket_0 23 rfl rfl)
theorem dX14_readBracket_24 : decode cX14_readBracket 24 = .ok (.aload_n 0, 1) := dk_42 (dk_at dksX14_readBracket_1 0 rfl rfl)
theorem dX14_readBracket_25 : decode cX14_readBracket 25 = .ok (.invokevirtual 226, 3) := dk_182 0 226 (dk_at dksX14_readBracket_1 1 rfl rfl)
theorem dX14_readBracket_28 : decode cX14_readBracket 28 = .ok (.iconst 1, 1) := dk_4 (dk_at dksX14_readBracket_1 4 rfl rfl)
theorem dX14_readBracket_29 : decode cX14_readBracket 29 = .ok (.ireturn, 1) := dk_172 (dk_at dksX14_readBracket_1 5 rfl rfl)
abbrev cX14_readNot : ByteArray := prog_23_method_104_code
def yX14_readNot : MethodName := ⟨RX14, "readNot", "()Z"⟩
def dkwX14_readNot_1 : List UInt8 := [4, 172]
abbrev dktX14_readNot_1 : List UInt8 := dkwX14_readNot_1 ++ []
def dkwX14_readNot_0 : List UInt8 := [42, 182, 2, 3, 154, 0, 5, 3, 172, 42, 42, 4, 42, 180, 1, 253, 3, 3, 182, 2, 0, 181, 1, 253]
abbrev dktX14_readNot_0 : List UInt8 := dkwX14_readNot_0 ++ dktX14_readNot_1
theorem dksX14_readNot_0 : cX14_readNot.data.toList.drop 0 = dktX14_readNot_0 := by decide +kernel
theorem dksX14_readNot_1 : cX14_readNot.data.toList.drop 24 = dktX14_readNot_1 := dk_seg dksX14_readNot_0 24 rfl rfl
theorem dX14_readNot_0 : decode cX14_readNot 0 = .ok (.aload_n 0, 1) := dk_42 (dk_at dksX14_readNot_0 0 rfl rfl)
theorem dX14_readNot_1 : decode cX14_readNot 1 = .ok (.invokevirtual 515, 3) := dk_182 2 3 (dk_at dksX14_readNot_0 1 rfl rfl)
theorem dX14_readNot_4 : decode cX14_readNot 4 = .ok (.ifCond .ne 5, 3) := dk_154 0 5 (dk_at dksX14_readNot_0 4 rfl rfl)
theorem dX14_readNot_7 : decode cX14_readNot 7 = .ok (.iconst 0, 1) := dk_3 (dk_at dksX14_readNot_0 7 rfl rfl)
theorem dX14_readNot_8 : decode cX14_readNot 8 = .ok (.ireturn, 1) := dk_172 (dk_at dksX14_readNot_0 8 rfl rfl)
theorem dX14_readNot_9 : decode cX14_readNot 9 = .ok (.aload_n 0, 1) := dk_42 (dk_at dksX14_readNot_0 9 rfl rfl)
theorem dX14_readNot_10 : decode cX14_readNot 10 = .ok (.aload_n 0, 1) := dk_42 (dk_at dksX14_readNot_0 10 rfl rfl)
theorem dX14_readNot_11 : decode cX14_readNot 11 = .ok (.iconst 1, 1) := dk_4 (dk_at dksX14_readNot_0 11 rfl rfl)
theorem dX14_readNot_12 : decode cX14_readNot 12 = .ok (.aload_n 0, 1) := dk_42 (dk_at dksX14_readNot_0 12 rfl rfl)
theorem dX14_readNot_13 : decode cX14_readNot 13 = .ok (.getfield 509, 3) := dk_180 1 253 (dk_at dksX14_readNot_0 13 rfl rfl)
theorem dX14_readNot_16 : decode cX14_readNot 16 = .ok (.iconst 0, 1) := dk_3 (dk_at dksX14_readNot_0 16 rfl rfl)
theorem dX14_readNot_17 : decode cX14_readNot 17 = .ok (.iconst 0, 1) := dk_3 (dk_at dksX14_readNot_0 17 rfl rfl)
theorem dX14_readNot_18 : decode cX14_readNot 18 = .ok (.invokevirtual 512, 3) := dk_182 2 0 (dk_at dksX14_readNot_0 18 rfl rfl)
theorem dX14_readNot_21 : decode cX14_readNot 21 = .ok (.putfield 509, 3) := dk_181 1 253 (dk_at dksX14_readNot_0 21 rfl rfl)
theorem dX14_readNot_24 : decode cX14_readNot 24 = .ok (.iconst 1, 1) := dk_4 (dk_at dksX14_readNot_1 0 rfl rfl)
theorem dX14_readNot_25 : decode cX14_readNot 25 = .ok (.ireturn, 1) := dk_172 (dk_at dksX14_readNot_1 1 rfl rfl)
abbrev cX14_lays : ByteArray := prog_23_method_100_code
def yX14_lays : MethodName := ⟨RX14, "lays", "(IIII)I"⟩
def dkwX14_lays_2 : List UInt8 := [89, 180, 1, 247, 4, 96, 181, 1, 247, 42, 180, 1, 247, 4, 100, 172]
abbrev dktX14_lays_2 : List UInt8 := dkwX14_lays_2 ++ []
def dkwX14_lays_1 : List UInt8 := [28, 79, 42, 180, 0, 145, 21, 5, 5, 96, 29, 79, 42, 180, 0, 145, 21, 5, 6, 96, 21, 4, 79, 42]
abbrev dktX14_lays_1 : List UInt8 := dkwX14_lays_1 ++ dktX14_lays_2
def dkwX14_lays_0 : List UInt8 := [7, 42, 180, 1, 247, 104, 54, 5, 42, 180, 0, 145, 21, 5, 27, 79, 42, 180, 0, 145, 21, 5, 4, 96]
abbrev dktX14_lays_0 : List UInt8 := dkwX14_lays_0 ++ dktX14_lays_1
theorem dksX14_lays_0 : cX14_lays.data.toList.drop 0 = dktX14_lays_0 := by decide +kernel
theorem dksX14_lays_1 : cX14_lays.data.toList.drop 24 = dktX14_lays_1 := dk_seg dksX14_lays_0 24 rfl rfl
theorem dksX14_lays_2 : cX14_lays.data.toList.drop 48 = dktX14_lays_2 := dk_seg dksX14_lays_1 24 rfl rfl
theorem dX14_lays_0 : decode cX14_lays 0 = .ok (.iconst 4, 1) := dk_7 (dk_at dksX14_lays_0 0 rfl rfl)
theorem dX14_lays_1 : decode cX14_lays 1 = .ok (.aload_n 0, 1) := dk_42 (dk_at dksX14_lays_0 1 rfl rfl)
theorem dX14_lays_2 : decode cX14_lays 2 = .ok (.getfield 503, 3) := dk_180 1 247 (dk_at dksX14_lays_0 2 rfl rfl)
theorem dX14_lays_5 : decode cX14_lays 5 = .ok (.imul, 1) := dk_104 (dk_at dksX14_lays_0 5 rfl rfl)
theorem dX14_lays_6 : decode cX14_lays 6 = .ok (.istore 5, 2) := dk_54 5 (dk_at dksX14_lays_0 6 rfl rfl)
theorem dX14_lays_8 : decode cX14_lays 8 = .ok (.aload_n 0, 1) := dk_42 (dk_at dksX14_lays_0 8 rfl rfl)
theorem dX14_lays_9 : decode cX14_lays 9 = .ok (.getfield 145, 3) := dk_180 0 145 (dk_at dksX14_lays_0 9 rfl rfl)
theorem dX14_lays_12 : decode cX14_lays 12 = .ok (.iload 5, 2) := dk_21 5 (dk_at dksX14_lays_0 12 rfl rfl)
theorem dX14_lays_14 : decode cX14_lays 14 = .ok (.iload_n 1, 1) := dk_27 (dk_at dksX14_lays_0 14 rfl rfl)
theorem dX14_lays_15 : decode cX14_lays 15 = .ok (.iastore, 1) := dk_79 (dk_at dksX14_lays_0 15 rfl rfl)
theorem dX14_lays_16 : decode cX14_lays 16 = .ok (.aload_n 0, 1) := dk_42 (dk_at dksX14_lays_0 16 rfl rfl)
theorem dX14_lays_17 : decode cX14_lays 17 = .ok (.getfield 145, 3) := dk_180 0 145 (dk_at dksX14_lays_0 17 rfl rfl)
theorem dX14_lays_20 : decode cX14_lays 20 = .ok (.iload 5, 2) := dk_21 5 (dk_at dksX14_lays_0 20 rfl rfl)
theorem dX14_lays_22 : decode cX14_lays 22 = .ok (.iconst 1, 1) := dk_4 (dk_at dksX14_lays_0 22 rfl rfl)
theorem dX14_lays_23 : decode cX14_lays 23 = .ok (.iadd, 1) := dk_96 (dk_at dksX14_lays_0 23 rfl rfl)
theorem dX14_lays_24 : decode cX14_lays 24 = .ok (.iload_n 2, 1) := dk_28 (dk_at dksX14_lays_1 0 rfl rfl)
theorem dX14_lays_25 : decode cX14_lays 25 = .ok (.iastore, 1) := dk_79 (dk_at dksX14_lays_1 1 rfl rfl)
theorem dX14_lays_26 : decode cX14_lays 26 = .ok (.aload_n 0, 1) := dk_42 (dk_at dksX14_lays_1 2 rfl rfl)
theorem dX14_lays_27 : decode cX14_lays 27 = .ok (.getfield 145, 3) := dk_180 0 145 (dk_at dksX14_lays_1 3 rfl rfl)
theorem dX14_lays_30 : decode cX14_lays 30 = .ok (.iload 5, 2) := dk_21 5 (dk_at dksX14_lays_1 6 rfl rfl)
theorem dX14_lays_32 : decode cX14_lays 32 = .ok (.iconst 2, 1) := dk_5 (dk_at dksX14_lays_1 8 rfl rfl)
theorem dX14_lays_33 : decode cX14_lays 33 = .ok (.iadd, 1) := dk_96 (dk_at dksX14_lays_1 9 rfl rfl)
theorem dX14_lays_34 : decode cX14_lays 34 = .ok (.iload_n 3, 1) := dk_29 (dk_at dksX14_lays_1 10 rfl rfl)
theorem dX14_lays_35 : decode cX14_lays 35 = .ok (.iastore, 1) := dk_79 (dk_at dksX14_lays_1 11 rfl rfl)
theorem dX14_lays_36 : decode cX14_lays 36 = .ok (.aload_n 0, 1) := dk_42 (dk_at dksX14_lays_1 12 rfl rfl)
theorem dX14_lays_37 : decode cX14_lays 37 = .ok (.getfield 145, 3) := dk_180 0 145 (dk_at dksX14_lays_1 13 rfl rfl)
theorem dX14_lays_40 : decode cX14_lays 40 = .ok (.iload 5, 2) := dk_21 5 (dk_at dksX14_lays_1 16 rfl rfl)
theorem dX14_lays_42 : decode cX14_lays 42 = .ok (.iconst 3, 1) := dk_6 (dk_at dksX14_lays_1 18 rfl rfl)
theorem dX14_lays_43 : decode cX14_lays 43 = .ok (.iadd, 1) := dk_96 (dk_at dksX14_lays_1 19 rfl rfl)
theorem dX14_lays_44 : decode cX14_lays 44 = .ok (.iload 4, 2) := dk_21 4 (dk_at dksX14_lays_1 20 rfl rfl)
theorem dX14_lays_46 : decode cX14_lays 46 = .ok (.iastore, 1) := dk_79 (dk_at dksX14_lays_1 22 rfl rfl)
theorem dX14_lays_47 : decode cX14_lays 47 = .ok (.aload_n 0, 1) := dk_42 (dk_at dksX14_lays_1 23 rfl rfl)
theorem dX14_lays_48 : decode cX14_lays 48 = .ok (.dup, 1) := dk_89 (dk_at dksX14_lays_2 0 rfl rfl)
theorem dX14_lays_49 : decode cX14_lays 49 = .ok (.getfield 503, 3) := dk_180 1 247 (dk_at dksX14_lays_2 1 rfl rfl)
theorem dX14_lays_52 : decode cX14_lays 52 = .ok (.iconst 1, 1) := dk_4 (dk_at dksX14_lays_2 4 rfl rfl)
theorem dX14_lays_53 : decode cX14_lays 53 = .ok (.iadd, 1) := dk_96 (dk_at dksX14_lays_2 5 rfl rfl)
theorem dX14_lays_54 : decode cX14_lays 54 = .ok (.putfield 503, 3) := dk_181 1 247 (dk_at dksX14_lays_2 6 rfl rfl)
theorem dX14_lays_57 : decode cX14_lays 57 = .ok (.aload_n 0, 1) := dk_42 (dk_at dksX14_lays_2 9 rfl rfl)
theorem dX14_lays_58 : decode cX14_lays 58 = .ok (.getfield 503, 3) := dk_180 1 247 (dk_at dksX14_lays_2 10 rfl rfl)
theorem dX14_lays_61 : decode cX14_lays 61 = .ok (.iconst 1, 1) := dk_4 (dk_at dksX14_lays_2 13 rfl rfl)
theorem dX14_lays_62 : decode cX14_lays 62 = .ok (.isub, 1) := dk_100 (dk_at dksX14_lays_2 14 rfl rfl)
theorem dX14_lays_63 : decode cX14_lays 63 = .ok (.ireturn, 1) := dk_172 (dk_at dksX14_lays_2 15 rfl rfl)
abbrev cX14_readCompare : ByteArray := prog_23_method_106_code
def yX14_readCompare : MethodName := ⟨RX14, "readCompare", "(I)Z"⟩
def dkwX14_readCompare_3 : List UInt8 := [181, 1, 253, 4, 172]
abbrev dktX14_readCompare_3 : List UInt8 := dkwX14_readCompare_3 ++ []
def dkwX14_readCompare_2 : List UInt8 := [182, 0, 251, 154, 0, 5, 3, 172, 42, 42, 8, 27, 16, 24, 100, 42, 180, 0, 223, 28, 182, 2, 0]
abbrev dktX14_readCompare_2 : List UInt8 := dkwX14_readCompare_2 ++ dktX14_readCompare_3
def dkwX14_readCompare_1 : List UInt8 := [154, 0, 9, 42, 4, 182, 0, 216, 172, 42, 180, 0, 180, 61, 42, 182, 0, 226, 42, 3, 19, 2, 24]
abbrev dktX14_readCompare_1 : List UInt8 := dkwX14_readCompare_1 ++ dktX14_readCompare_2
def dkwX14_readCompare_0 : List UInt8 := [42, 16, 60, 182, 0, 229, 154, 0, 27, 42, 16, 61, 182, 0, 229, 154, 0, 18, 42, 16, 62, 182, 0, 229]
abbrev dktX14_readCompare_0 : List UInt8 := dkwX14_readCompare_0 ++ dktX14_readCompare_1
theorem dksX14_readCompare_0 : cX14_readCompare.data.toList.drop 0 = dktX14_readCompare_0 := by decide +kernel
theorem dksX14_readCompare_1 : cX14_readCompare.data.toList.drop 24 = dktX14_readCompare_1 := dk_seg dksX14_readCompare_0 24 rfl rfl
theorem dksX14_readCompare_2 : cX14_readCompare.data.toList.drop 47 = dktX14_readCompare_2 := dk_seg dksX14_readCompare_1 23 rfl rfl
theorem dksX14_readCompare_3 : cX14_readCompare.data.toList.drop 70 = dktX14_readCompare_3 := dk_seg dksX14_readCompare_2 23 rfl rfl
theorem dX14_readCompare_0 : decode cX14_readCompare 0 = .ok (.aload_n 0, 1) := dk_42 (dk_at dksX14_readCompare_0 0 rfl rfl)
theorem dX14_readCompare_1 : decode cX14_readCompare 1 = .ok (.bipush 60, 2) := dk_16 60 (dk_at dksX14_readCompare_0 1 rfl rfl)
theorem dX14_readCompare_3 : decode cX14_readCompare 3 = .ok (.invokevirtual 229, 3) := dk_182 0 229 (dk_at dksX14_readCompare_0 3 rfl rfl)
theorem dX14_readCompare_6 : decode cX14_readCompare 6 = .ok (.ifCond .ne 27, 3) := dk_154 0 27 (dk_at dksX14_readCompare_0 6 rfl rfl)
theorem dX14_readCompare_9 : decode cX14_readCompare 9 = .ok (.aload_n 0, 1) := dk_42 (dk_at dksX14_readCompare_0 9 rfl rfl)
theorem dX14_readCompare_10 : decode cX14_readCompare 10 = .ok (.bipush 61, 2) := dk_16 61 (dk_at dksX14_readCompare_0 10 rfl rfl)
theorem dX14_readCompare_12 : decode cX14_readCompare 12 = .ok (.invokevirtual 229, 3) := dk_182 0 229 (dk_at dksX14_readCompare_0 12 rfl rfl)
theorem dX14_readCompare_15 : decode cX14_readCompare 15 = .ok (.ifCond .ne 18, 3) := dk_154 0 18 (dk_at dksX14_readCompare_0 15 rfl rfl)
theorem dX14_readCompare_18 : decode cX14_readCompare 18 = .ok (.aload_n 0, 1) := dk_42 (dk_at dksX14_readCompare_0 18 rfl rfl)
theorem dX14_readCompare_19 : decode cX14_readCompare 19 = .ok (.bipush 62, 2) := dk_16 62 (dk_at dksX14_readCompare_0 19 rfl rfl)
theorem dX14_readCompare_21 : decode cX14_readCompare 21 = .ok (.invokevirtual 229, 3) := dk_182 0 229 (dk_at dksX14_readCompare_0 21 rfl rfl)
theorem dX14_readCompare_24 : decode cX14_readCompare 24 = .ok (.ifCond .ne 9, 3) := dk_154 0 9 (dk_at dksX14_readCompare_1 0 rfl rfl)
theorem dX14_readCompare_27 : decode cX14_readCompare 27 = .ok (.aload_n 0, 1) := dk_42 (dk_at dksX14_readCompare_1 3 rfl rfl)
theorem dX14_readCompare_28 : decode cX14_readCompare 28 = .ok (.iconst 1, 1) := dk_4 (dk_at dksX14_readCompare_1 4 rfl rfl)
theorem dX14_readCompare_29 : decode cX14_readCompare 29 = .ok (.invokevirtual 216, 3) := dk_182 0 216 (dk_at dksX14_readCompare_1 5 rfl rfl)
theorem dX14_readCompare_32 : decode cX14_readCompare 32 = .ok (.ireturn, 1) := dk_172 (dk_at dksX14_readCompare_1 8 rfl rfl)
theorem dX14_readCompare_33 : decode cX14_readCompare 33 = .ok (.aload_n 0, 1) := dk_42 (dk_at dksX14_readCompare_1 9 rfl rfl)
theorem dX14_readCompare_34 : decode cX14_readCompare 34 = .ok (.getfield 180, 3) := dk_180 0 180 (dk_at dksX14_readCompare_1 10 rfl rfl)
theorem dX14_readCompare_37 : decode cX14_readCompare 37 = .ok (.istore_n 2, 1) := dk_61 (dk_at dksX14_readCompare_1 13 rfl rfl)
theorem dX14_readCompare_38 : decode cX14_readCompare 38 = .ok (.aload_n 0, 1) := dk_42 (dk_at dksX14_readCompare_1 14 rfl rfl)
theorem dX14_readCompare_39 : decode cX14_readCompare 39 = .ok (.invokevirtual 226, 3) := dk_182 0 226 (dk_at dksX14_readCompare_1 15 rfl rfl)
theorem dX14_readCompare_42 : decode cX14_readCompare 42 = .ok (.aload_n 0, 1) := dk_42 (dk_at dksX14_readCompare_1 18 rfl rfl)
theorem dX14_readCompare_43 : decode cX14_readCompare 43 = .ok (.iconst 0, 1) := dk_3 (dk_at dksX14_readCompare_1 19 rfl rfl)
theorem dX14_readCompare_44 : decode cX14_readCompare 44 = .ok (.ldc_w 536, 3) := dk_19 2 24 (dk_at dksX14_readCompare_1 20 rfl rfl)
theorem dX14_readCompare_47 : decode cX14_readCompare 47 = .ok (.invokevirtual 251, 3) := dk_182 0 251 (dk_at dksX14_readCompare_2 0 rfl rfl)
theorem dX14_readCompare_50 : decode cX14_readCompare 50 = .ok (.ifCond .ne 5, 3) := dk_154 0 5 (dk_at dksX14_readCompare_2 3 rfl rfl)
theorem dX14_readCompare_53 : decode cX14_readCompare 53 = .ok (.iconst 0, 1) := dk_3 (dk_at dksX14_readCompare_2 6 rfl rfl)
theorem dX14_readCompare_54 : decode cX14_readCompare 54 = .ok (.ireturn, 1) := dk_172 (dk_at dksX14_readCompare_2 7 rfl rfl)
theorem dX14_readCompare_55 : decode cX14_readCompare 55 = .ok (.aload_n 0, 1) := dk_42 (dk_at dksX14_readCompare_2 8 rfl rfl)
theorem dX14_readCompare_56 : decode cX14_readCompare 56 = .ok (.aload_n 0, 1) := dk_42 (dk_at dksX14_readCompare_2 9 rfl rfl)
theorem dX14_readCompare_57 : decode cX14_readCompare 57 = .ok (.iconst 5, 1) := dk_8 (dk_at dksX14_readCompare_2 10 rfl rfl)
theorem dX14_readCompare_58 : decode cX14_readCompare 58 = .ok (.iload_n 1, 1) := dk_27 (dk_at dksX14_readCompare_2 11 rfl rfl)
theorem dX14_readCompare_59 : decode cX14_readCompare 59 = .ok (.bipush 24, 2) := dk_16 24 (dk_at dksX14_readCompare_2 12 rfl rfl)
theorem dX14_readCompare_61 : decode cX14_readCompare 61 = .ok (.isub, 1) := dk_100 (dk_at dksX14_readCompare_2 14 rfl rfl)
theorem dX14_readCompare_62 : decode cX14_readCompare 62 = .ok (.aload_n 0, 1) := dk_42 (dk_at dksX14_readCompare_2 15 rfl rfl)
theorem dX14_readCompare_63 : decode cX14_readCompare 63 = .ok (.getfield 223, 3) := dk_180 0 223 (dk_at dksX14_readCompare_2 16 rfl rfl)
theorem dX14_readCompare_66 : decode cX14_readCompare 66 = .ok (.iload_n 2, 1) := dk_28 (dk_at dksX14_readCompare_2 19 rfl rfl)
theorem dX14_readCompare_67 : decode cX14_readCompare 67 = .ok (.invokevirtual 512, 3) := dk_182 2 0 (dk_at dksX14_readCompare_2 20 rfl rfl)
theorem dX14_readCompare_70 : decode cX14_readCompare 70 = .ok (.putfield 509, 3) := dk_181 1 253 (dk_at dksX14_readCompare_3 0 rfl rfl)
theorem dX14_readCompare_73 : decode cX14_readCompare 73 = .ok (.iconst 1, 1) := dk_4 (dk_at dksX14_readCompare_3 3 rfl rfl)
theorem dX14_readCompare_74 : decode cX14_readCompare 74 = .ok (.ireturn, 1) := dk_172 (dk_at dksX14_readCompare_3 4 rfl rfl)
abbrev cX14_said : ByteArray := prog_23_method_109_code
def yX14_said : MethodName := ⟨RX14, "said", "(I)I"⟩
def dkwX14_said_3 : List UInt8 := [132, 3, 1, 167, 255, 218, 27, 2, 160, 0, 7, 28, 167, 0, 4, 2, 172]
abbrev dktX14_said_3 : List UInt8 := dkwX14_said_3 ++ []
def dkwX14_said_2 : List UInt8 := [17, 2, 29, 46, 29, 182, 2, 25, 154, 0, 6, 167, 0, 13, 28, 27, 160, 0, 5, 29, 172, 132, 2, 1]
abbrev dktX14_said_2 : List UInt8 := dkwX14_said_2 ++ dktX14_said_3
def dkwX14_said_1 : List UInt8 := [162, 0, 5, 2, 172, 42, 182, 1, 244, 3, 61, 3, 62, 29, 16, 60, 162, 0, 38, 42, 42, 180, 0, 13]
abbrev dktX14_said_1 : List UInt8 := dkwX14_said_1 ++ dktX14_said_2
def dkwX14_said_0 : List UInt8 := [42, 3, 181, 0, 148, 42, 182, 0, 232, 42, 180, 0, 13, 17, 2, 28, 46, 153, 0, 8, 27, 2]
abbrev dktX14_said_0 : List UInt8 := dkwX14_said_0 ++ dktX14_said_1
theorem dksX14_said_0 : cX14_said.data.toList.drop 0 = dktX14_said_0 := by decide +kernel
theorem dksX14_said_1 : cX14_said.data.toList.drop 22 = dktX14_said_1 := dk_seg dksX14_said_0 22 rfl rfl
theorem dksX14_said_2 : cX14_said.data.toList.drop 46 = dktX14_said_2 := dk_seg dksX14_said_1 24 rfl rfl
theorem dksX14_said_3 : cX14_said.data.toList.drop 70 = dktX14_said_3 := dk_seg dksX14_said_2 24 rfl rfl
theorem dX14_said_0 : decode cX14_said 0 = .ok (.aload_n 0, 1) := dk_42 (dk_at dksX14_said_0 0 rfl rfl)
theorem dX14_said_1 : decode cX14_said 1 = .ok (.iconst 0, 1) := dk_3 (dk_at dksX14_said_0 1 rfl rfl)
theorem dX14_said_2 : decode cX14_said 2 = .ok (.putfield 148, 3) := dk_181 0 148 (dk_at dksX14_said_0 2 rfl rfl)
theorem dX14_said_5 : decode cX14_said 5 = .ok (.aload_n 0, 1) := dk_42 (dk_at dksX14_said_0 5 rfl rfl)
theorem dX14_said_6 : decode cX14_said 6 = .ok (.invokevirtual 232, 3) := dk_182 0 232 (dk_at dksX14_said_0 6 rfl rfl)
theorem dX14_said_9 : decode cX14_said 9 = .ok (.aload_n 0, 1) := dk_42 (dk_at dksX14_said_0 9 rfl rfl)
theorem dX14_said_10 : decode cX14_said 10 = .ok (.getfield 13, 3) := dk_180 0 13 (dk_at dksX14_said_0 10 rfl rfl)
theorem dX14_said_13 : decode cX14_said 13 = .ok (.sipush 540, 3) := dk_17 2 28 (dk_at dksX14_said_0 13 rfl rfl)
theorem dX14_said_16 : decode cX14_said 16 = .ok (.iaload, 1) := dk_46 (dk_at dksX14_said_0 16 rfl rfl)
theorem dX14_said_17 : decode cX14_said 17 = .ok (.ifCond .eq 8, 3) := dk_153 0 8 (dk_at dksX14_said_0 17 rfl rfl)
theorem dX14_said_20 : decode cX14_said 20 = .ok (.iload_n 1, 1) := dk_27 (dk_at dksX14_said_0 20 rfl rfl)
theorem dX14_said_21 : decode cX14_said 21 = .ok (.iconst (-1), 1) := dk_2 (dk_at dksX14_said_0 21 rfl rfl)
theorem dX14_said_22 : decode cX14_said 22 = .ok (.if_icmp .ge 5, 3) := dk_162 0 5 (dk_at dksX14_said_1 0 rfl rfl)
theorem dX14_said_25 : decode cX14_said 25 = .ok (.iconst (-1), 1) := dk_2 (dk_at dksX14_said_1 3 rfl rfl)
theorem dX14_said_26 : decode cX14_said 26 = .ok (.ireturn, 1) := dk_172 (dk_at dksX14_said_1 4 rfl rfl)
theorem dX14_said_27 : decode cX14_said 27 = .ok (.aload_n 0, 1) := dk_42 (dk_at dksX14_said_1 5 rfl rfl)
theorem dX14_said_28 : decode cX14_said 28 = .ok (.invokevirtual 500, 3) := dk_182 1 244 (dk_at dksX14_said_1 6 rfl rfl)
theorem dX14_said_31 : decode cX14_said 31 = .ok (.iconst 0, 1) := dk_3 (dk_at dksX14_said_1 9 rfl rfl)
theorem dX14_said_32 : decode cX14_said 32 = .ok (.istore_n 2, 1) := dk_61 (dk_at dksX14_said_1 10 rfl rfl)
theorem dX14_said_33 : decode cX14_said 33 = .ok (.iconst 0, 1) := dk_3 (dk_at dksX14_said_1 11 rfl rfl)
theorem dX14_said_34 : decode cX14_said 34 = .ok (.istore_n 3, 1) := dk_62 (dk_at dksX14_said_1 12 rfl rfl)
theorem dX14_said_35 : decode cX14_said 35 = .ok (.iload_n 3, 1) := dk_29 (dk_at dksX14_said_1 13 rfl rfl)
theorem dX14_said_36 : decode cX14_said 36 = .ok (.bipush 60, 2) := dk_16 60 (dk_at dksX14_said_1 14 rfl rfl)
theorem dX14_said_38 : decode cX14_said 38 = .ok (.if_icmp .ge 38, 3) := dk_162 0 38 (dk_at dksX14_said_1 16 rfl rfl)
theorem dX14_said_41 : decode cX14_said 41 = .ok (.aload_n 0, 1) := dk_42 (dk_at dksX14_said_1 19 rfl rfl)
theorem dX14_said_42 : decode cX14_said 42 = .ok (.aload_n 0, 1) := dk_42 (dk_at dksX14_said_1 20 rfl rfl)
theorem dX14_said_43 : decode cX14_said 43 = .ok (.getfield 13, 3) := dk_180 0 13 (dk_at dksX14_said_1 21 rfl rfl)
theorem dX14_said_46 : decode cX14_said 46 = .ok (.sipush 541, 3) := dk_17 2 29 (dk_at dksX14_said_2 0 rfl rfl)
theorem dX14_said_49 : decode cX14_said 49 = .ok (.iaload, 1) := dk_46 (dk_at dksX14_said_2 3 rfl rfl)
theorem dX14_said_50 : decode cX14_said 50 = .ok (.iload_n 3, 1) := dk_29 (dk_at dksX14_said_2 4 rfl rfl)
theorem dX14_said_51 : decode cX14_said 51 = .ok (.invokevirtual 537, 3) := dk_182 2 25 (dk_at dksX14_said_2 5 rfl rfl)
theorem dX14_said_54 : decode cX14_said 54 = .ok (.ifCond .ne 6, 3) := dk_154 0 6 (dk_at dksX14_said_2 8 rfl rfl)
theorem dX14_said_57 : decode cX14_said 57 = .ok (.goto 13, 3) := dk_167 0 13 (dk_at dksX14_said_2 11 rfl rfl)
theorem dX14_said_60 : decode cX14_said 60 = .ok (.iload_n 2, 1) := dk_28 (dk_at dksX14_said_2 14 rfl rfl)
theorem dX14_said_61 : decode cX14_said 61 = .ok (.iload_n 1, 1) := dk_27 (dk_at dksX14_said_2 15 rfl rfl)
theorem dX14_said_62 : decode cX14_said 62 = .ok (.if_icmp .ne 5, 3) := dk_160 0 5 (dk_at dksX14_said_2 16 rfl rfl)
theorem dX14_said_65 : decode cX14_said 65 = .ok (.iload_n 3, 1) := dk_29 (dk_at dksX14_said_2 19 rfl rfl)
theorem dX14_said_66 : decode cX14_said 66 = .ok (.ireturn, 1) := dk_172 (dk_at dksX14_said_2 20 rfl rfl)
theorem dX14_said_67 : decode cX14_said 67 = .ok (.iinc 2 1, 3) := dk_132 2 1 (dk_at dksX14_said_2 21 rfl rfl)
theorem dX14_said_70 : decode cX14_said 70 = .ok (.iinc 3 1, 3) := dk_132 3 1 (dk_at dksX14_said_3 0 rfl rfl)
theorem dX14_said_73 : decode cX14_said 73 = .ok (.goto (-38), 3) := dk_167 255 218 (dk_at dksX14_said_3 3 rfl rfl)
theorem dX14_said_76 : decode cX14_said 76 = .ok (.iload_n 1, 1) := dk_27 (dk_at dksX14_said_3 6 rfl rfl)
theorem dX14_said_77 : decode cX14_said 77 = .ok (.iconst (-1), 1) := dk_2 (dk_at dksX14_said_3 7 rfl rfl)
theorem dX14_said_78 : decode cX14_said 78 = .ok (.if_icmp .ne 7, 3) := dk_160 0 7 (dk_at dksX14_said_3 8 rfl rfl)
theorem dX14_said_81 : decode cX14_said 81 = .ok (.iload_n 2, 1) := dk_28 (dk_at dksX14_said_3 11 rfl rfl)
theorem dX14_said_82 : decode cX14_said 82 = .ok (.goto 4, 3) := dk_167 0 4 (dk_at dksX14_said_3 12 rfl rfl)
theorem dX14_said_85 : decode cX14_said 85 = .ok (.iconst (-1), 1) := dk_2 (dk_at dksX14_said_3 15 rfl rfl)
theorem dX14_said_86 : decode cX14_said 86 = .ok (.ireturn, 1) := dk_172 (dk_at dksX14_said_3 16 rfl rfl)
abbrev cX14_isSo : ByteArray := prog_23_method_108_code
def yX14_isSo : MethodName := ⟨RX14, "isSo", "(II)Z"⟩
def dkwX14_isSo_10 : List UInt8 := [167, 0, 15, 21, 6, 21, 5, 164, 0, 7, 4, 167, 0, 4, 3, 172]
abbrev dktX14_isSo_10 : List UInt8 := dkwX14_isSo_10 ++ []
def dkwX14_isSo_9 : List UInt8 := [180, 0, 13, 29, 6, 96, 46, 16, 61, 160, 0, 18, 21, 6, 21, 5, 160, 0, 7, 4, 167, 0, 19, 3]
abbrev dktX14_isSo_9 : List UInt8 := dkwX14_isSo_9 ++ dktX14_isSo_10
def dkwX14_isSo_8 : List UInt8 := [96, 46, 16, 60, 160, 0, 18, 21, 6, 21, 5, 162, 0, 7, 4, 167, 0, 47, 3, 167, 0, 43, 42]
abbrev dktX14_isSo_8 : List UInt8 := dkwX14_isSo_8 ++ dktX14_isSo_9
def dkwX14_isSo_7 : List UInt8 := [167, 0, 16, 42, 180, 0, 142, 7, 28, 104, 21, 4, 96, 4, 100, 46, 54, 6, 42, 180, 0, 13, 29, 6]
abbrev dktX14_isSo_7 : List UInt8 := dkwX14_isSo_7 ++ dktX14_isSo_8
def dkwX14_isSo_6 : List UInt8 := [180, 0, 142, 7, 28, 104, 5, 96, 46, 154, 0, 7, 4, 167, 0, 4, 3, 172, 21, 4, 154, 0, 7, 28]
abbrev dktX14_isSo_6 : List UInt8 := dkwX14_isSo_6 ++ dktX14_isSo_7
def dkwX14_isSo_5 : List UInt8 := [182, 2, 25, 154, 0, 13, 42, 21, 5, 28, 182, 2, 25, 153, 0, 7, 4, 167, 0, 4, 3, 172, 42]
abbrev dktX14_isSo_5 : List UInt8 := dkwX14_isSo_5 ++ dktX14_isSo_6
def dkwX14_isSo_4 : List UInt8 := [153, 0, 17, 42, 21, 5, 28, 182, 2, 25, 153, 0, 7, 4, 167, 0, 4, 3, 172, 42, 21, 4, 28]
abbrev dktX14_isSo_4 : List UInt8 := dkwX14_isSo_4 ++ dktX14_isSo_5
def dkwX14_isSo_3 : List UInt8 := [42, 21, 4, 28, 182, 2, 25, 154, 0, 7, 4, 167, 0, 4, 3, 172, 42, 21, 4, 28, 182, 2, 25]
abbrev dktX14_isSo_3 : List UInt8 := dkwX14_isSo_3 ++ dktX14_isSo_4
def dkwX14_isSo_2 : List UInt8 := [170, 0, 0, 0, 0, 117, 0, 0, 0, 1, 0, 0, 0, 4, 0, 0, 0, 30, 0, 0, 0, 46, 0, 0, 0, 72, 0, 0, 0, 98]
abbrev dktX14_isSo_2 : List UInt8 := dkwX14_isSo_2 ++ dktX14_isSo_3
def dkwX14_isSo_1 : List UInt8 := [96, 46, 54, 5, 42, 180, 0, 13, 29, 46]
abbrev dktX14_isSo_1 : List UInt8 := dkwX14_isSo_1 ++ dktX14_isSo_2
def dkwX14_isSo_0 : List UInt8 := [17, 2, 38, 7, 27, 104, 96, 62, 42, 180, 0, 13, 29, 4, 96, 46, 54, 4, 42, 180, 0, 13, 29, 5]
abbrev dktX14_isSo_0 : List UInt8 := dkwX14_isSo_0 ++ dktX14_isSo_1
theorem dksX14_isSo_0 : cX14_isSo.data.toList.drop 0 = dktX14_isSo_0 := by decide +kernel
theorem dksX14_isSo_1 : cX14_isSo.data.toList.drop 24 = dktX14_isSo_1 := dk_seg dksX14_isSo_0 24 rfl rfl
theorem dksX14_isSo_2 : cX14_isSo.data.toList.drop 34 = dktX14_isSo_2 := dk_seg dksX14_isSo_1 10 rfl rfl
theorem dksX14_isSo_3 : cX14_isSo.data.toList.drop 64 = dktX14_isSo_3 := dk_seg dksX14_isSo_2 30 rfl rfl
theorem dksX14_isSo_4 : cX14_isSo.data.toList.drop 87 = dktX14_isSo_4 := dk_seg dksX14_isSo_3 23 rfl rfl
theorem dksX14_isSo_5 : cX14_isSo.data.toList.drop 110 = dktX14_isSo_5 := dk_seg dksX14_isSo_4 23 rfl rfl
theorem dksX14_isSo_6 : cX14_isSo.data.toList.drop 133 = dktX14_isSo_6 := dk_seg dksX14_isSo_5 23 rfl rfl
theorem dksX14_isSo_7 : cX14_isSo.data.toList.drop 157 = dktX14_isSo_7 := dk_seg dksX14_isSo_6 24 rfl rfl
theorem dksX14_isSo_8 : cX14_isSo.data.toList.drop 181 = dktX14_isSo_8 := dk_seg dksX14_isSo_7 24 rfl rfl
theorem dksX14_isSo_9 : cX14_isSo.data.toList.drop 204 = dktX14_isSo_9 := dk_seg dksX14_isSo_8 23 rfl rfl
theorem dksX14_isSo_10 : cX14_isSo.data.toList.drop 228 = dktX14_isSo_10 := dk_seg dksX14_isSo_9 24 rfl rfl
theorem dX14_isSo_0 : decode cX14_isSo 0 = .ok (.sipush 550, 3) := dk_17 2 38 (dk_at dksX14_isSo_0 0 rfl rfl)
theorem dX14_isSo_3 : decode cX14_isSo 3 = .ok (.iconst 4, 1) := dk_7 (dk_at dksX14_isSo_0 3 rfl rfl)
theorem dX14_isSo_4 : decode cX14_isSo 4 = .ok (.iload_n 1, 1) := dk_27 (dk_at dksX14_isSo_0 4 rfl rfl)
theorem dX14_isSo_5 : decode cX14_isSo 5 = .ok (.imul, 1) := dk_104 (dk_at dksX14_isSo_0 5 rfl rfl)
theorem dX14_isSo_6 : decode cX14_isSo 6 = .ok (.iadd, 1) := dk_96 (dk_at dksX14_isSo_0 6 rfl rfl)
theorem dX14_isSo_7 : decode cX14_isSo 7 = .ok (.istore_n 3, 1) := dk_62 (dk_at dksX14_isSo_0 7 rfl rfl)
theorem dX14_isSo_8 : decode cX14_isSo 8 = .ok (.aload_n 0, 1) := dk_42 (dk_at dksX14_isSo_0 8 rfl rfl)
theorem dX14_isSo_9 : decode cX14_isSo 9 = .ok (.getfield 13, 3) := dk_180 0 13 (dk_at dksX14_isSo_0 9 rfl rfl)
theorem dX14_isSo_12 : decode cX14_isSo 12 = .ok (.iload_n 3, 1) := dk_29 (dk_at dksX14_isSo_0 12 rfl rfl)
theorem dX14_isSo_13 : decode cX14_isSo 13 = .ok (.iconst 1, 1) := dk_4 (dk_at dksX14_isSo_0 13 rfl rfl)
theorem dX14_isSo_14 : decode cX14_isSo 14 = .ok (.iadd, 1) := dk_96 (dk_at dksX14_isSo_0 14 rfl rfl)
theorem dX14_isSo_15 : decode cX14_isSo 15 = .ok (.iaload, 1) := dk_46 (dk_at dksX14_isSo_0 15 rfl rfl)
theorem dX14_isSo_16 : decode cX14_isSo 16 = .ok (.istore 4, 2) := dk_54 4 (dk_at dksX14_isSo_0 16 rfl rfl)
theorem dX14_isSo_18 : decode cX14_isSo 18 = .ok (.aload_n 0, 1) := dk_42 (dk_at dksX14_isSo_0 18 rfl rfl)
theorem dX14_isSo_19 : decode cX14_isSo 19 = .ok (.getfield 13, 3) := dk_180 0 13 (dk_at dksX14_isSo_0 19 rfl rfl)
theorem dX14_isSo_22 : decode cX14_isSo 22 = .ok (.iload_n 3, 1) := dk_29 (dk_at dksX14_isSo_0 22 rfl rfl)
theorem dX14_isSo_23 : decode cX14_isSo 23 = .ok (.iconst 2, 1) := dk_5 (dk_at dksX14_isSo_0 23 rfl rfl)
theorem dX14_isSo_24 : decode cX14_isSo 24 = .ok (.iadd, 1) := dk_96 (dk_at dksX14_isSo_1 0 rfl rfl)
theorem dX14_isSo_25 : decode cX14_isSo 25 = .ok (.iaload, 1) := dk_46 (dk_at dksX14_isSo_1 1 rfl rfl)
theorem dX14_isSo_26 : decode cX14_isSo 26 = .ok (.istore 5, 2) := dk_54 5 (dk_at dksX14_isSo_1 2 rfl rfl)
theorem dX14_isSo_28 : decode cX14_isSo 28 = .ok (.aload_n 0, 1) := dk_42 (dk_at dksX14_isSo_1 4 rfl rfl)
theorem dX14_isSo_29 : decode cX14_isSo 29 = .ok (.getfield 13, 3) := dk_180 0 13 (dk_at dksX14_isSo_1 5 rfl rfl)
theorem dX14_isSo_32 : decode cX14_isSo 32 = .ok (.iload_n 3, 1) := dk_29 (dk_at dksX14_isSo_1 8 rfl rfl)
theorem dX14_isSo_33 : decode cX14_isSo 33 = .ok (.iaload, 1) := dk_46 (dk_at dksX14_isSo_1 9 rfl rfl)
theorem dX14_isSo_34 : decode cX14_isSo 34 = .ok (.tableswitch 117 1 4 #[30, 46, 72, 98], 30) := by decide +kernel
theorem dX14_isSo_64 : decode cX14_isSo 64 = .ok (.aload_n 0, 1) := dk_42 (dk_at dksX14_isSo_3 0 rfl rfl)
theorem dX14_isSo_65 : decode cX14_isSo 65 = .ok (.iload 4, 2) := dk_21 4 (dk_at dksX14_isSo_3 1 rfl rfl)
theorem dX14_isSo_67 : decode cX14_isSo 67 = .ok (.iload_n 2, 1) := dk_28 (dk_at dksX14_isSo_3 3 rfl rfl)
theorem dX14_isSo_68 : decode cX14_isSo 68 = .ok (.invokevirtual 537, 3) := dk_182 2 25 (dk_at dksX14_isSo_3 4 rfl rfl)
theorem dX14_isSo_71 : decode cX14_isSo 71 = .ok (.ifCond .ne 7, 3) := dk_154 0 7 (dk_at dksX14_isSo_3 7 rfl rfl)
theorem dX14_isSo_74 : decode cX14_isSo 74 = .ok (.iconst 1, 1) := dk_4 (dk_at dksX14_isSo_3 10 rfl rfl)
theorem dX14_isSo_75 : decode cX14_isSo 75 = .ok (.goto 4, 3) := dk_167 0 4 (dk_at dksX14_isSo_3 11 rfl rfl)
theorem dX14_isSo_78 : decode cX14_isSo 78 = .ok (.iconst 0, 1) := dk_3 (dk_at dksX14_isSo_3 14 rfl rfl)
theorem dX14_isSo_79 : decode cX14_isSo 79 = .ok (.ireturn, 1) := dk_172 (dk_at dksX14_isSo_3 15 rfl rfl)
theorem dX14_isSo_80 : decode cX14_isSo 80 = .ok (.aload_n 0, 1) := dk_42 (dk_at dksX14_isSo_3 16 rfl rfl)
theorem dX14_isSo_81 : decode cX14_isSo 81 = .ok (.iload 4, 2) := dk_21 4 (dk_at dksX14_isSo_3 17 rfl rfl)
theorem dX14_isSo_83 : decode cX14_isSo 83 = .ok (.iload_n 2, 1) := dk_28 (dk_at dksX14_isSo_3 19 rfl rfl)
theorem dX14_isSo_84 : decode cX14_isSo 84 = .ok (.invokevirtual 537, 3) := dk_182 2 25 (dk_at dksX14_isSo_3 20 rfl rfl)
theorem dX14_isSo_87 : decode cX14_isSo 87 = .ok (.ifCond .eq 17, 3) := dk_153 0 17 (dk_at dksX14_isSo_4 0 rfl rfl)
theorem dX14_isSo_90 : decode cX14_isSo 90 = .ok (.aload_n 0, 1) := dk_42 (dk_at dksX14_isSo_4 3 rfl rfl)
theorem dX14_isSo_91 : decode cX14_isSo 91 = .ok (.iload 5, 2) := dk_21 5 (dk_at dksX14_isSo_4 4 rfl rfl)
theorem dX14_isSo_93 : decode cX14_isSo 93 = .ok (.iload_n 2, 1) := dk_28 (dk_at dksX14_isSo_4 6 rfl rfl)
theorem dX14_isSo_94 : decode cX14_isSo 94 = .ok (.invokevirtual 537, 3) := dk_182 2 25 (dk_at dksX14_isSo_4 7 rfl rfl)
theorem dX14_isSo_97 : decode cX14_isSo 97 = .ok (.ifCond .eq 7, 3) := dk_153 0 7 (dk_at dksX14_isSo_4 10 rfl rfl)
theorem dX14_isSo_100 : decode cX14_isSo 100 = .ok (.iconst 1, 1) := dk_4 (dk_at dksX14_isSo_4 13 rfl rfl)
theorem dX14_isSo_101 : decode cX14_isSo 101 = .ok (.goto 4, 3) := dk_167 0 4 (dk_at dksX14_isSo_4 14 rfl rfl)
theorem dX14_isSo_104 : decode cX14_isSo 104 = .ok (.iconst 0, 1) := dk_3 (dk_at dksX14_isSo_4 17 rfl rfl)
theorem dX14_isSo_105 : decode cX14_isSo 105 = .ok (.ireturn, 1) := dk_172 (dk_at dksX14_isSo_4 18 rfl rfl)
theorem dX14_isSo_106 : decode cX14_isSo 106 = .ok (.aload_n 0, 1) := dk_42 (dk_at dksX14_isSo_4 19 rfl rfl)
theorem dX14_isSo_107 : decode cX14_isSo 107 = .ok (.iload 4, 2) := dk_21 4 (dk_at dksX14_isSo_4 20 rfl rfl)
theorem dX14_isSo_109 : decode cX14_isSo 109 = .ok (.iload_n 2, 1) := dk_28 (dk_at dksX14_isSo_4 22 rfl rfl)
theorem dX14_isSo_110 : decode cX14_isSo 110 = .ok (.invokevirtual 537, 3) := dk_182 2 25 (dk_at dksX14_isSo_5 0 rfl rfl)
theorem dX14_isSo_113 : decode cX14_isSo 113 = .ok (.ifCond .ne 13, 3) := dk_154 0 13 (dk_at dksX14_isSo_5 3 rfl rfl)
theorem dX14_isSo_116 : decode cX14_isSo 116 = .ok (.aload_n 0, 1) := dk_42 (dk_at dksX14_isSo_5 6 rfl rfl)
theorem dX14_isSo_117 : decode cX14_isSo 117 = .ok (.iload 5, 2) := dk_21 5 (dk_at dksX14_isSo_5 7 rfl rfl)
theorem dX14_isSo_119 : decode cX14_isSo 119 = .ok (.iload_n 2, 1) := dk_28 (dk_at dksX14_isSo_5 9 rfl rfl)
theorem dX14_isSo_120 : decode cX14_isSo 120 = .ok (.invokevirtual 537, 3) := dk_182 2 25 (dk_at dksX14_isSo_5 10 rfl rfl)
theorem dX14_isSo_123 : decode cX14_isSo 123 = .ok (.ifCond .eq 7, 3) := dk_153 0 7 (dk_at dksX14_isSo_5 13 rfl rfl)
theorem dX14_isSo_126 : decode cX14_isSo 126 = .ok (.iconst 1, 1) := dk_4 (dk_at dksX14_isSo_5 16 rfl rfl)
theorem dX14_isSo_127 : decode cX14_isSo 127 = .ok (.goto 4, 3) := dk_167 0 4 (dk_at dksX14_isSo_5 17 rfl rfl)
theorem dX14_isSo_130 : decode cX14_isSo 130 = .ok (.iconst 0, 1) := dk_3 (dk_at dksX14_isSo_5 20 rfl rfl)
theorem dX14_isSo_131 : decode cX14_isSo 131 = .ok (.ireturn, 1) := dk_172 (dk_at dksX14_isSo_5 21 rfl rfl)
theorem dX14_isSo_132 : decode cX14_isSo 132 = .ok (.aload_n 0, 1) := dk_42 (dk_at dksX14_isSo_5 22 rfl rfl)
theorem dX14_isSo_133 : decode cX14_isSo 133 = .ok (.getfield 142, 3) := dk_180 0 142 (dk_at dksX14_isSo_6 0 rfl rfl)
theorem dX14_isSo_136 : decode cX14_isSo 136 = .ok (.iconst 4, 1) := dk_7 (dk_at dksX14_isSo_6 3 rfl rfl)
theorem dX14_isSo_137 : decode cX14_isSo 137 = .ok (.iload_n 2, 1) := dk_28 (dk_at dksX14_isSo_6 4 rfl rfl)
theorem dX14_isSo_138 : decode cX14_isSo 138 = .ok (.imul, 1) := dk_104 (dk_at dksX14_isSo_6 5 rfl rfl)
theorem dX14_isSo_139 : decode cX14_isSo 139 = .ok (.iconst 2, 1) := dk_5 (dk_at dksX14_isSo_6 6 rfl rfl)
theorem dX14_isSo_140 : decode cX14_isSo 140 = .ok (.iadd, 1) := dk_96 (dk_at dksX14_isSo_6 7 rfl rfl)
theorem dX14_isSo_141 : decode cX14_isSo 141 = .ok (.iaload, 1) := dk_46 (dk_at dksX14_isSo_6 8 rfl rfl)
theorem dX14_isSo_142 : decode cX14_isSo 142 = .ok (.ifCond .ne 7, 3) := dk_154 0 7 (dk_at dksX14_isSo_6 9 rfl rfl)
theorem dX14_isSo_145 : decode cX14_isSo 145 = .ok (.iconst 1, 1) := dk_4 (dk_at dksX14_isSo_6 12 rfl rfl)
theorem dX14_isSo_146 : decode cX14_isSo 146 = .ok (.goto 4, 3) := dk_167 0 4 (dk_at dksX14_isSo_6 13 rfl rfl)
theorem dX14_isSo_149 : decode cX14_isSo 149 = .ok (.iconst 0, 1) := dk_3 (dk_at dksX14_isSo_6 16 rfl rfl)
theorem dX14_isSo_150 : decode cX14_isSo 150 = .ok (.ireturn, 1) := dk_172 (dk_at dksX14_isSo_6 17 rfl rfl)
theorem dX14_isSo_151 : decode cX14_isSo 151 = .ok (.iload 4, 2) := dk_21 4 (dk_at dksX14_isSo_6 18 rfl rfl)
theorem dX14_isSo_153 : decode cX14_isSo 153 = .ok (.ifCond .ne 7, 3) := dk_154 0 7 (dk_at dksX14_isSo_6 20 rfl rfl)
theorem dX14_isSo_156 : decode cX14_isSo 156 = .ok (.iload_n 2, 1) := dk_28 (dk_at dksX14_isSo_6 23 rfl rfl)
theorem dX14_isSo_157 : decode cX14_isSo 157 = .ok (.goto 16, 3) := dk_167 0 16 (dk_at dksX14_isSo_7 0 rfl rfl)
theorem dX14_isSo_160 : decode cX14_isSo 160 = .ok (.aload_n 0, 1) := dk_42 (dk_at dksX14_isSo_7 3 rfl rfl)
theorem dX14_isSo_161 : decode cX14_isSo 161 = .ok (.getfield 142, 3) := dk_180 0 142 (dk_at dksX14_isSo_7 4 rfl rfl)
theorem dX14_isSo_164 : decode cX14_isSo 164 = .ok (.iconst 4, 1) := dk_7 (dk_at dksX14_isSo_7 7 rfl rfl)
theorem dX14_isSo_165 : decode cX14_isSo 165 = .ok (.iload_n 2, 1) := dk_28 (dk_at dksX14_isSo_7 8 rfl rfl)
theorem dX14_isSo_166 : decode cX14_isSo 166 = .ok (.imul, 1) := dk_104 (dk_at dksX14_isSo_7 9 rfl rfl)
theorem dX14_isSo_167 : decode cX14_isSo 167 = .ok (.iload 4, 2) := dk_21 4 (dk_at dksX14_isSo_7 10 rfl rfl)
theorem dX14_isSo_169 : decode cX14_isSo 169 = .ok (.iadd, 1) := dk_96 (dk_at dksX14_isSo_7 12 rfl rfl)
theorem dX14_isSo_170 : decode cX14_isSo 170 = .ok (.iconst 1, 1) := dk_4 (dk_at dksX14_isSo_7 13 rfl rfl)
theorem dX14_isSo_171 : decode cX14_isSo 171 = .ok (.isub, 1) := dk_100 (dk_at dksX14_isSo_7 14 rfl rfl)
theorem dX14_isSo_172 : decode cX14_isSo 172 = .ok (.iaload, 1) := dk_46 (dk_at dksX14_isSo_7 15 rfl rfl)
theorem dX14_isSo_173 : decode cX14_isSo 173 = .ok (.istore 6, 2) := dk_54 6 (dk_at dksX14_isSo_7 16 rfl rfl)
theorem dX14_isSo_175 : decode cX14_isSo 175 = .ok (.aload_n 0, 1) := dk_42 (dk_at dksX14_isSo_7 18 rfl rfl)
theorem dX14_isSo_176 : decode cX14_isSo 176 = .ok (.getfield 13, 3) := dk_180 0 13 (dk_at dksX14_isSo_7 19 rfl rfl)
theorem dX14_isSo_179 : decode cX14_isSo 179 = .ok (.iload_n 3, 1) := dk_29 (dk_at dksX14_isSo_7 22 rfl rfl)
theorem dX14_isSo_180 : decode cX14_isSo 180 = .ok (.iconst 3, 1) := dk_6 (dk_at dksX14_isSo_7 23 rfl rfl)
theorem dX14_isSo_181 : decode cX14_isSo 181 = .ok (.iadd, 1) := dk_96 (dk_at dksX14_isSo_8 0 rfl rfl)
theorem dX14_isSo_182 : decode cX14_isSo 182 = .ok (.iaload, 1) := dk_46 (dk_at dksX14_isSo_8 1 rfl rfl)
theorem dX14_isSo_183 : decode cX14_isSo 183 = .ok (.bipush 60, 2) := dk_16 60 (dk_at dksX14_isSo_8 2 rfl rfl)
theorem dX14_isSo_185 : decode cX14_isSo 185 = .ok (.if_icmp .ne 18, 3) := dk_160 0 18 (dk_at dksX14_isSo_8 4 rfl rfl)
theorem dX14_isSo_188 : decode cX14_isSo 188 = .ok (.iload 6, 2) := dk_21 6 (dk_at dksX14_isSo_8 7 rfl rfl)
theorem dX14_isSo_190 : decode cX14_isSo 190 = .ok (.iload 5, 2) := dk_21 5 (dk_at dksX14_isSo_8 9 rfl rfl)
theorem dX14_isSo_192 : decode cX14_isSo 192 = .ok (.if_icmp .ge 7, 3) := dk_162 0 7 (dk_at dksX14_isSo_8 11 rfl rfl)
theorem dX14_isSo_195 : decode cX14_isSo 195 = .ok (.iconst 1, 1) := dk_4 (dk_at dksX14_isSo_8 14 rfl rfl)
theorem dX14_isSo_196 : decode cX14_isSo 196 = .ok (.goto 47, 3) := dk_167 0 47 (dk_at dksX14_isSo_8 15 rfl rfl)
theorem dX14_isSo_199 : decode cX14_isSo 199 = .ok (.iconst 0, 1) := dk_3 (dk_at dksX14_isSo_8 18 rfl rfl)
theorem dX14_isSo_200 : decode cX14_isSo 200 = .ok (.goto 43, 3) := dk_167 0 43 (dk_at dksX14_isSo_8 19 rfl rfl)
theorem dX14_isSo_203 : decode cX14_isSo 203 = .ok (.aload_n 0, 1) := dk_42 (dk_at dksX14_isSo_8 22 rfl rfl)
theorem dX14_isSo_204 : decode cX14_isSo 204 = .ok (.getfield 13, 3) := dk_180 0 13 (dk_at dksX14_isSo_9 0 rfl rfl)
theorem dX14_isSo_207 : decode cX14_isSo 207 = .ok (.iload_n 3, 1) := dk_29 (dk_at dksX14_isSo_9 3 rfl rfl)
theorem dX14_isSo_208 : decode cX14_isSo 208 = .ok (.iconst 3, 1) := dk_6 (dk_at dksX14_isSo_9 4 rfl rfl)
theorem dX14_isSo_209 : decode cX14_isSo 209 = .ok (.iadd, 1) := dk_96 (dk_at dksX14_isSo_9 5 rfl rfl)
theorem dX14_isSo_210 : decode cX14_isSo 210 = .ok (.iaload, 1) := dk_46 (dk_at dksX14_isSo_9 6 rfl rfl)
theorem dX14_isSo_211 : decode cX14_isSo 211 = .ok (.bipush 61, 2) := dk_16 61 (dk_at dksX14_isSo_9 7 rfl rfl)
theorem dX14_isSo_213 : decode cX14_isSo 213 = .ok (.if_icmp .ne 18, 3) := dk_160 0 18 (dk_at dksX14_isSo_9 9 rfl rfl)
theorem dX14_isSo_216 : decode cX14_isSo 216 = .ok (.iload 6, 2) := dk_21 6 (dk_at dksX14_isSo_9 12 rfl rfl)
theorem dX14_isSo_218 : decode cX14_isSo 218 = .ok (.iload 5, 2) := dk_21 5 (dk_at dksX14_isSo_9 14 rfl rfl)
theorem dX14_isSo_220 : decode cX14_isSo 220 = .ok (.if_icmp .ne 7, 3) := dk_160 0 7 (dk_at dksX14_isSo_9 16 rfl rfl)
theorem dX14_isSo_223 : decode cX14_isSo 223 = .ok (.iconst 1, 1) := dk_4 (dk_at dksX14_isSo_9 19 rfl rfl)
theorem dX14_isSo_224 : decode cX14_isSo 224 = .ok (.goto 19, 3) := dk_167 0 19 (dk_at dksX14_isSo_9 20 rfl rfl)
theorem dX14_isSo_227 : decode cX14_isSo 227 = .ok (.iconst 0, 1) := dk_3 (dk_at dksX14_isSo_9 23 rfl rfl)
theorem dX14_isSo_228 : decode cX14_isSo 228 = .ok (.goto 15, 3) := dk_167 0 15 (dk_at dksX14_isSo_10 0 rfl rfl)
theorem dX14_isSo_231 : decode cX14_isSo 231 = .ok (.iload 6, 2) := dk_21 6 (dk_at dksX14_isSo_10 3 rfl rfl)
theorem dX14_isSo_233 : decode cX14_isSo 233 = .ok (.iload 5, 2) := dk_21 5 (dk_at dksX14_isSo_10 5 rfl rfl)
theorem dX14_isSo_235 : decode cX14_isSo 235 = .ok (.if_icmp .le 7, 3) := dk_164 0 7 (dk_at dksX14_isSo_10 7 rfl rfl)
theorem dX14_isSo_238 : decode cX14_isSo 238 = .ok (.iconst 1, 1) := dk_4 (dk_at dksX14_isSo_10 10 rfl rfl)
theorem dX14_isSo_239 : decode cX14_isSo 239 = .ok (.goto 4, 3) := dk_167 0 4 (dk_at dksX14_isSo_10 11 rfl rfl)
theorem dX14_isSo_242 : decode cX14_isSo 242 = .ok (.iconst 0, 1) := dk_3 (dk_at dksX14_isSo_10 14 rfl rfl)
theorem dX14_isSo_243 : decode cX14_isSo 243 = .ok (.ireturn, 1) := dk_172 (dk_at dksX14_isSo_10 15 rfl rfl)
abbrev cX14_image : ByteArray := prog_23_method_110_code
def yX14_image : MethodName := ⟨RX14, "image", "(I)Z"⟩
def dkwX14_image_3 : List UInt8 := [42, 180, 0, 25, 28, 47, 80, 132, 2, 1, 167, 255, 230, 42, 180, 0, 35, 27, 4, 84, 4, 172]
abbrev dktX14_image_3 : List UInt8 := dkwX14_image_3 ++ []
def dkwX14_image_2 : List UInt8 := [132, 2, 1, 167, 255, 228, 3, 61, 28, 16, 12, 162, 0, 26, 42, 180, 0, 32, 16, 12, 27, 104, 28, 96]
abbrev dktX14_image_2 : List UInt8 := dkwX14_image_2 ++ dktX14_image_3
def dkwX14_image_1 : List UInt8 := [17, 3, 32, 162, 0, 27, 42, 180, 0, 22, 17, 3, 32, 27, 104, 28, 96, 42, 180, 0, 13, 28, 46, 79]
abbrev dktX14_image_1 : List UInt8 := dkwX14_image_1 ++ dktX14_image_2
def dkwX14_image_0 : List UInt8 := [42, 3, 181, 0, 148, 42, 182, 0, 232, 27, 3, 4, 184, 0, 219, 154, 0, 5, 3, 172, 3, 61, 28]
abbrev dktX14_image_0 : List UInt8 := dkwX14_image_0 ++ dktX14_image_1
theorem dksX14_image_0 : cX14_image.data.toList.drop 0 = dktX14_image_0 := by decide +kernel
theorem dksX14_image_1 : cX14_image.data.toList.drop 23 = dktX14_image_1 := dk_seg dksX14_image_0 23 rfl rfl
theorem dksX14_image_2 : cX14_image.data.toList.drop 47 = dktX14_image_2 := dk_seg dksX14_image_1 24 rfl rfl
theorem dksX14_image_3 : cX14_image.data.toList.drop 71 = dktX14_image_3 := dk_seg dksX14_image_2 24 rfl rfl
theorem dX14_image_0 : decode cX14_image 0 = .ok (.aload_n 0, 1) := dk_42 (dk_at dksX14_image_0 0 rfl rfl)
theorem dX14_image_1 : decode cX14_image 1 = .ok (.iconst 0, 1) := dk_3 (dk_at dksX14_image_0 1 rfl rfl)
theorem dX14_image_2 : decode cX14_image 2 = .ok (.putfield 148, 3) := dk_181 0 148 (dk_at dksX14_image_0 2 rfl rfl)
theorem dX14_image_5 : decode cX14_image 5 = .ok (.aload_n 0, 1) := dk_42 (dk_at dksX14_image_0 5 rfl rfl)
theorem dX14_image_6 : decode cX14_image 6 = .ok (.invokevirtual 232, 3) := dk_182 0 232 (dk_at dksX14_image_0 6 rfl rfl)
theorem dX14_image_9 : decode cX14_image 9 = .ok (.iload_n 1, 1) := dk_27 (dk_at dksX14_image_0 9 rfl rfl)
theorem dX14_image_10 : decode cX14_image 10 = .ok (.iconst 0, 1) := dk_3 (dk_at dksX14_image_0 10 rfl rfl)
theorem dX14_image_11 : decode cX14_image 11 = .ok (.iconst 1, 1) := dk_4 (dk_at dksX14_image_0 11 rfl rfl)
theorem dX14_image_12 : decode cX14_image 12 = .ok (.invokestatic 219, 3) := dk_184 0 219 (dk_at dksX14_image_0 12 rfl rfl)
theorem dX14_image_15 : decode cX14_image 15 = .ok (.ifCond .ne 5, 3) := dk_154 0 5 (dk_at dksX14_image_0 15 rfl rfl)
theorem dX14_image_18 : decode cX14_image 18 = .ok (.iconst 0, 1) := dk_3 (dk_at dksX14_image_0 18 rfl rfl)
theorem dX14_image_19 : decode cX14_image 19 = .ok (.ireturn, 1) := dk_172 (dk_at dksX14_image_0 19 rfl rfl)
theorem dX14_image_20 : decode cX14_image 20 = .ok (.iconst 0, 1) := dk_3 (dk_at dksX14_image_0 20 rfl rfl)
theorem dX14_image_21 : decode cX14_image 21 = .ok (.istore_n 2, 1) := dk_61 (dk_at dksX14_image_0 21 rfl rfl)
theorem dX14_image_22 : decode cX14_image 22 = .ok (.iload_n 2, 1) := dk_28 (dk_at dksX14_image_0 22 rfl rfl)
theorem dX14_image_23 : decode cX14_image 23 = .ok (.sipush 800, 3) := dk_17 3 32 (dk_at dksX14_image_1 0 rfl rfl)
theorem dX14_image_26 : decode cX14_image 26 = .ok (.if_icmp .ge 27, 3) := dk_162 0 27 (dk_at dksX14_image_1 3 rfl rfl)
theorem dX14_image_29 : decode cX14_image 29 = .ok (.aload_n 0, 1) := dk_42 (dk_at dksX14_image_1 6 rfl rfl)
theorem dX14_image_30 : decode cX14_image 30 = .ok (.getfield 22, 3) := dk_180 0 22 (dk_at dksX14_image_1 7 rfl rfl)
theorem dX14_image_33 : decode cX14_image 33 = .ok (.sipush 800, 3) := dk_17 3 32 (dk_at dksX14_image_1 10 rfl rfl)
theorem dX14_image_36 : decode cX14_image 36 = .ok (.iload_n 1, 1) := dk_27 (dk_at dksX14_image_1 13 rfl rfl)
theorem dX14_image_37 : decode cX14_image 37 = .ok (.imul, 1) := dk_104 (dk_at dksX14_image_1 14 rfl rfl)
theorem dX14_image_38 : decode cX14_image 38 = .ok (.iload_n 2, 1) := dk_28 (dk_at dksX14_image_1 15 rfl rfl)
theorem dX14_image_39 : decode cX14_image 39 = .ok (.iadd, 1) := dk_96 (dk_at dksX14_image_1 16 rfl rfl)
theorem dX14_image_40 : decode cX14_image 40 = .ok (.aload_n 0, 1) := dk_42 (dk_at dksX14_image_1 17 rfl rfl)
theorem dX14_image_41 : decode cX14_image 41 = .ok (.getfield 13, 3) := dk_180 0 13 (dk_at dksX14_image_1 18 rfl rfl)
theorem dX14_image_44 : decode cX14_image 44 = .ok (.iload_n 2, 1) := dk_28 (dk_at dksX14_image_1 21 rfl rfl)
theorem dX14_image_45 : decode cX14_image 45 = .ok (.iaload, 1) := dk_46 (dk_at dksX14_image_1 22 rfl rfl)
theorem dX14_image_46 : decode cX14_image 46 = .ok (.iastore, 1) := dk_79 (dk_at dksX14_image_1 23 rfl rfl)
theorem dX14_image_47 : decode cX14_image 47 = .ok (.iinc 2 1, 3) := dk_132 2 1 (dk_at dksX14_image_2 0 rfl rfl)
theorem dX14_image_50 : decode cX14_image 50 = .ok (.goto (-28), 3) := dk_167 255 228 (dk_at dksX14_image_2 3 rfl rfl)
theorem dX14_image_53 : decode cX14_image 53 = .ok (.iconst 0, 1) := dk_3 (dk_at dksX14_image_2 6 rfl rfl)
theorem dX14_image_54 : decode cX14_image 54 = .ok (.istore_n 2, 1) := dk_61 (dk_at dksX14_image_2 7 rfl rfl)
theorem dX14_image_55 : decode cX14_image 55 = .ok (.iload_n 2, 1) := dk_28 (dk_at dksX14_image_2 8 rfl rfl)
theorem dX14_image_56 : decode cX14_image 56 = .ok (.bipush 12, 2) := dk_16 12 (dk_at dksX14_image_2 9 rfl rfl)
theorem dX14_image_58 : decode cX14_image 58 = .ok (.if_icmp .ge 26, 3) := dk_162 0 26 (dk_at dksX14_image_2 11 rfl rfl)
theorem dX14_image_61 : decode cX14_image 61 = .ok (.aload_n 0, 1) := dk_42 (dk_at dksX14_image_2 14 rfl rfl)
theorem dX14_image_62 : decode cX14_image 62 = .ok (.getfield 32, 3) := dk_180 0 32 (dk_at dksX14_image_2 15 rfl rfl)
theorem dX14_image_65 : decode cX14_image 65 = .ok (.bipush 12, 2) := dk_16 12 (dk_at dksX14_image_2 18 rfl rfl)
theorem dX14_image_67 : decode cX14_image 67 = .ok (.iload_n 1, 1) := dk_27 (dk_at dksX14_image_2 20 rfl rfl)
theorem dX14_image_68 : decode cX14_image 68 = .ok (.imul, 1) := dk_104 (dk_at dksX14_image_2 21 rfl rfl)
theorem dX14_image_69 : decode cX14_image 69 = .ok (.iload_n 2, 1) := dk_28 (dk_at dksX14_image_2 22 rfl rfl)
theorem dX14_image_70 : decode cX14_image 70 = .ok (.iadd, 1) := dk_96 (dk_at dksX14_image_2 23 rfl rfl)
theorem dX14_image_71 : decode cX14_image 71 = .ok (.aload_n 0, 1) := dk_42 (dk_at dksX14_image_3 0 rfl rfl)
theorem dX14_image_72 : decode cX14_image 72 = .ok (.getfield 25, 3) := dk_180 0 25 (dk_at dksX14_image_3 1 rfl rfl)
theorem dX14_image_75 : decode cX14_image 75 = .ok (.iload_n 2, 1) := dk_28 (dk_at dksX14_image_3 4 rfl rfl)
theorem dX14_image_76 : decode cX14_image 76 = .ok (.laload, 1) := dk_47 (dk_at dksX14_image_3 5 rfl rfl)
theorem dX14_image_77 : decode cX14_image 77 = .ok (.lastore, 1) := dk_80 (dk_at dksX14_image_3 6 rfl rfl)
theorem dX14_image_78 : decode cX14_image 78 = .ok (.iinc 2 1, 3) := dk_132 2 1 (dk_at dksX14_image_3 7 rfl rfl)
theorem dX14_image_81 : decode cX14_image 81 = .ok (.goto (-26), 3) := dk_167 255 230 (dk_at dksX14_image_3 10 rfl rfl)
theorem dX14_image_84 : decode cX14_image 84 = .ok (.aload_n 0, 1) := dk_42 (dk_at dksX14_image_3 13 rfl rfl)
theorem dX14_image_85 : decode cX14_image 85 = .ok (.getfield 35, 3) := dk_180 0 35 (dk_at dksX14_image_3 14 rfl rfl)
theorem dX14_image_88 : decode cX14_image 88 = .ok (.iload_n 1, 1) := dk_27 (dk_at dksX14_image_3 17 rfl rfl)
theorem dX14_image_89 : decode cX14_image 89 = .ok (.iconst 1, 1) := dk_4 (dk_at dksX14_image_3 18 rfl rfl)
theorem dX14_image_90 : decode cX14_image 90 = .ok (.bastore, 1) := dk_84 (dk_at dksX14_image_3 19 rfl rfl)
theorem dX14_image_91 : decode cX14_image 91 = .ok (.iconst 1, 1) := dk_4 (dk_at dksX14_image_3 20 rfl rfl)
theorem dX14_image_92 : decode cX14_image 92 = .ok (.ireturn, 1) := dk_172 (dk_at dksX14_image_3 21 rfl rfl)
abbrev cX14_restore : ByteArray := prog_23_method_111_code
def yX14_restore : MethodName := ⟨RX14, "restore", "(I)Z"⟩
def dkwX14_restore_3 : List UInt8 := [180, 0, 25, 28, 42, 180, 0, 32, 16, 12, 27, 104, 28, 96, 47, 80, 132, 2, 1, 167, 255, 230, 4, 172]
abbrev dktX14_restore_3 : List UInt8 := dkwX14_restore_3 ++ []
def dkwX14_restore_2 : List UInt8 := [17, 3, 32, 27, 104, 28, 96, 46, 79, 132, 2, 1, 167, 255, 228, 3, 61, 28, 16, 12, 162, 0, 26, 42]
abbrev dktX14_restore_2 : List UInt8 := dkwX14_restore_2 ++ dktX14_restore_3
def dkwX14_restore_1 : List UInt8 := [154, 0, 5, 3, 172, 3, 61, 28, 17, 3, 32, 162, 0, 27, 42, 180, 0, 13, 28, 42, 180, 0, 22]
abbrev dktX14_restore_1 : List UInt8 := dkwX14_restore_1 ++ dktX14_restore_2
def dkwX14_restore_0 : List UInt8 := [42, 3, 181, 0, 148, 42, 182, 0, 232, 27, 3, 4, 184, 0, 219, 153, 0, 12, 42, 180, 0, 35, 27, 51]
abbrev dktX14_restore_0 : List UInt8 := dkwX14_restore_0 ++ dktX14_restore_1
theorem dksX14_restore_0 : cX14_restore.data.toList.drop 0 = dktX14_restore_0 := by decide +kernel
theorem dksX14_restore_1 : cX14_restore.data.toList.drop 24 = dktX14_restore_1 := dk_seg dksX14_restore_0 24 rfl rfl
theorem dksX14_restore_2 : cX14_restore.data.toList.drop 47 = dktX14_restore_2 := dk_seg dksX14_restore_1 23 rfl rfl
theorem dksX14_restore_3 : cX14_restore.data.toList.drop 71 = dktX14_restore_3 := dk_seg dksX14_restore_2 24 rfl rfl
theorem dX14_restore_0 : decode cX14_restore 0 = .ok (.aload_n 0, 1) := dk_42 (dk_at dksX14_restore_0 0 rfl rfl)
theorem dX14_restore_1 : decode cX14_restore 1 = .ok (.iconst 0, 1) := dk_3 (dk_at dksX14_restore_0 1 rfl rfl)
theorem dX14_restore_2 : decode cX14_restore 2 = .ok (.putfield 148, 3) := dk_181 0 148 (dk_at dksX14_restore_0 2 rfl rfl)
theorem dX14_restore_5 : decode cX14_restore 5 = .ok (.aload_n 0, 1) := dk_42 (dk_at dksX14_restore_0 5 rfl rfl)
theorem dX14_restore_6 : decode cX14_restore 6 = .ok (.invokevirtual 232, 3) := dk_182 0 232 (dk_at dksX14_restore_0 6 rfl rfl)
theorem dX14_restore_9 : decode cX14_restore 9 = .ok (.iload_n 1, 1) := dk_27 (dk_at dksX14_restore_0 9 rfl rfl)
theorem dX14_restore_10 : decode cX14_restore 10 = .ok (.iconst 0, 1) := dk_3 (dk_at dksX14_restore_0 10 rfl rfl)
theorem dX14_restore_11 : decode cX14_restore 11 = .ok (.iconst 1, 1) := dk_4 (dk_at dksX14_restore_0 11 rfl rfl)
theorem dX14_restore_12 : decode cX14_restore 12 = .ok (.invokestatic 219, 3) := dk_184 0 219 (dk_at dksX14_restore_0 12 rfl rfl)
theorem dX14_restore_15 : decode cX14_restore 15 = .ok (.ifCond .eq 12, 3) := dk_153 0 12 (dk_at dksX14_restore_0 15 rfl rfl)
theorem dX14_restore_18 : decode cX14_restore 18 = .ok (.aload_n 0, 1) := dk_42 (dk_at dksX14_restore_0 18 rfl rfl)
theorem dX14_restore_19 : decode cX14_restore 19 = .ok (.getfield 35, 3) := dk_180 0 35 (dk_at dksX14_restore_0 19 rfl rfl)
theorem dX14_restore_22 : decode cX14_restore 22 = .ok (.iload_n 1, 1) := dk_27 (dk_at dksX14_restore_0 22 rfl rfl)
theorem dX14_restore_23 : decode cX14_restore 23 = .ok (.baload, 1) := dk_51 (dk_at dksX14_restore_0 23 rfl rfl)
theorem dX14_restore_24 : decode cX14_restore 24 = .ok (.ifCond .ne 5, 3) := dk_154 0 5 (dk_at dksX14_restore_1 0 rfl rfl)
theorem dX14_restore_27 : decode cX14_restore 27 = .ok (.iconst 0, 1) := dk_3 (dk_at dksX14_restore_1 3 rfl rfl)
theorem dX14_restore_28 : decode cX14_restore 28 = .ok (.ireturn, 1) := dk_172 (dk_at dksX14_restore_1 4 rfl rfl)
theorem dX14_restore_29 : decode cX14_restore 29 = .ok (.iconst 0, 1) := dk_3 (dk_at dksX14_restore_1 5 rfl rfl)
theorem dX14_restore_30 : decode cX14_restore 30 = .ok (.istore_n 2, 1) := dk_61 (dk_at dksX14_restore_1 6 rfl rfl)
theorem dX14_restore_31 : decode cX14_restore 31 = .ok (.iload_n 2, 1) := dk_28 (dk_at dksX14_restore_1 7 rfl rfl)
theorem dX14_restore_32 : decode cX14_restore 32 = .ok (.sipush 800, 3) := dk_17 3 32 (dk_at dksX14_restore_1 8 rfl rfl)
theorem dX14_restore_35 : decode cX14_restore 35 = .ok (.if_icmp .ge 27, 3) := dk_162 0 27 (dk_at dksX14_restore_1 11 rfl rfl)
theorem dX14_restore_38 : decode cX14_restore 38 = .ok (.aload_n 0, 1) := dk_42 (dk_at dksX14_restore_1 14 rfl rfl)
theorem dX14_restore_39 : decode cX14_restore 39 = .ok (.getfield 13, 3) := dk_180 0 13 (dk_at dksX14_restore_1 15 rfl rfl)
theorem dX14_restore_42 : decode cX14_restore 42 = .ok (.iload_n 2, 1) := dk_28 (dk_at dksX14_restore_1 18 rfl rfl)
theorem dX14_restore_43 : decode cX14_restore 43 = .ok (.aload_n 0, 1) := dk_42 (dk_at dksX14_restore_1 19 rfl rfl)
theorem dX14_restore_44 : decode cX14_restore 44 = .ok (.getfield 22, 3) := dk_180 0 22 (dk_at dksX14_restore_1 20 rfl rfl)
theorem dX14_restore_47 : decode cX14_restore 47 = .ok (.sipush 800, 3) := dk_17 3 32 (dk_at dksX14_restore_2 0 rfl rfl)
theorem dX14_restore_50 : decode cX14_restore 50 = .ok (.iload_n 1, 1) := dk_27 (dk_at dksX14_restore_2 3 rfl rfl)
theorem dX14_restore_51 : decode cX14_restore 51 = .ok (.imul, 1) := dk_104 (dk_at dksX14_restore_2 4 rfl rfl)
theorem dX14_restore_52 : decode cX14_restore 52 = .ok (.iload_n 2, 1) := dk_28 (dk_at dksX14_restore_2 5 rfl rfl)
theorem dX14_restore_53 : decode cX14_restore 53 = .ok (.iadd, 1) := dk_96 (dk_at dksX14_restore_2 6 rfl rfl)
theorem dX14_restore_54 : decode cX14_restore 54 = .ok (.iaload, 1) := dk_46 (dk_at dksX14_restore_2 7 rfl rfl)
theorem dX14_restore_55 : decode cX14_restore 55 = .ok (.iastore, 1) := dk_79 (dk_at dksX14_restore_2 8 rfl rfl)
theorem dX14_restore_56 : decode cX14_restore 56 = .ok (.iinc 2 1, 3) := dk_132 2 1 (dk_at dksX14_restore_2 9 rfl rfl)
theorem dX14_restore_59 : decode cX14_restore 59 = .ok (.goto (-28), 3) := dk_167 255 228 (dk_at dksX14_restore_2 12 rfl rfl)
theorem dX14_restore_62 : decode cX14_restore 62 = .ok (.iconst 0, 1) := dk_3 (dk_at dksX14_restore_2 15 rfl rfl)
theorem dX14_restore_63 : decode cX14_restore 63 = .ok (.istore_n 2, 1) := dk_61 (dk_at dksX14_restore_2 16 rfl rfl)
theorem dX14_restore_64 : decode cX14_restore 64 = .ok (.iload_n 2, 1) := dk_28 (dk_at dksX14_restore_2 17 rfl rfl)
theorem dX14_restore_65 : decode cX14_restore 65 = .ok (.bipush 12, 2) := dk_16 12 (dk_at dksX14_restore_2 18 rfl rfl)
theorem dX14_restore_67 : decode cX14_restore 67 = .ok (.if_icmp .ge 26, 3) := dk_162 0 26 (dk_at dksX14_restore_2 20 rfl rfl)
theorem dX14_restore_70 : decode cX14_restore 70 = .ok (.aload_n 0, 1) := dk_42 (dk_at dksX14_restore_2 23 rfl rfl)
theorem dX14_restore_71 : decode cX14_restore 71 = .ok (.getfield 25, 3) := dk_180 0 25 (dk_at dksX14_restore_3 0 rfl rfl)
theorem dX14_restore_74 : decode cX14_restore 74 = .ok (.iload_n 2, 1) := dk_28 (dk_at dksX14_restore_3 3 rfl rfl)
theorem dX14_restore_75 : decode cX14_restore 75 = .ok (.aload_n 0, 1) := dk_42 (dk_at dksX14_restore_3 4 rfl rfl)
theorem dX14_restore_76 : decode cX14_restore 76 = .ok (.getfield 32, 3) := dk_180 0 32 (dk_at dksX14_restore_3 5 rfl rfl)
theorem dX14_restore_79 : decode cX14_restore 79 = .ok (.bipush 12, 2) := dk_16 12 (dk_at dksX14_restore_3 8 rfl rfl)
theorem dX14_restore_81 : decode cX14_restore 81 = .ok (.iload_n 1, 1) := dk_27 (dk_at dksX14_restore_3 10 rfl rfl)
theorem dX14_restore_82 : decode cX14_restore 82 = .ok (.imul, 1) := dk_104 (dk_at dksX14_restore_3 11 rfl rfl)
theorem dX14_restore_83 : decode cX14_restore 83 = .ok (.iload_n 2, 1) := dk_28 (dk_at dksX14_restore_3 12 rfl rfl)
theorem dX14_restore_84 : decode cX14_restore 84 = .ok (.iadd, 1) := dk_96 (dk_at dksX14_restore_3 13 rfl rfl)
theorem dX14_restore_85 : decode cX14_restore 85 = .ok (.laload, 1) := dk_47 (dk_at dksX14_restore_3 14 rfl rfl)
theorem dX14_restore_86 : decode cX14_restore 86 = .ok (.lastore, 1) := dk_80 (dk_at dksX14_restore_3 15 rfl rfl)
theorem dX14_restore_87 : decode cX14_restore 87 = .ok (.iinc 2 1, 3) := dk_132 2 1 (dk_at dksX14_restore_3 16 rfl rfl)
theorem dX14_restore_90 : decode cX14_restore 90 = .ok (.goto (-26), 3) := dk_167 255 230 (dk_at dksX14_restore_3 19 rfl rfl)
theorem dX14_restore_93 : decode cX14_restore 93 = .ok (.iconst 1, 1) := dk_4 (dk_at dksX14_restore_3 22 rfl rfl)
theorem dX14_restore_94 : decode cX14_restore 94 = .ok (.ireturn, 1) := dk_172 (dk_at dksX14_restore_3 23 rfl rfl)
abbrev cX14_count : ByteArray := prog_23_method_112_code
def yX14_count : MethodName := ⟨RX14, "count", "(I)I"⟩
def dkwX14_count_3 : List UInt8 := [172, 42, 180, 0, 13, 17, 0, 200, 46, 172, 42, 180, 0, 151, 172, 42, 180, 0, 13, 4, 46, 172, 2, 172]
abbrev dktX14_count_3 : List UInt8 := dkwX14_count_3 ++ []
def dkwX14_count_2 : List UInt8 := [42, 182, 1, 32, 172, 42, 182, 1, 42, 172, 42, 180, 0, 13, 16, 10, 46, 172, 42, 180, 0, 13, 5, 46]
abbrev dktX14_count_2 : List UInt8 := dkwX14_count_2 ++ dktX14_count_3
def dkwX14_count_1 : List UInt8 := [170, 0, 0, 0, 0, 88, 0, 0, 0, 0, 0, 0, 0, 6, 0, 0, 0, 42, 0, 0, 0, 47, 0, 0, 0, 52, 0, 0, 0, 60, 0, 0, 0, 67, 0, 0, 0, 76, 0, 0, 0, 81]
abbrev dktX14_count_1 : List UInt8 := dkwX14_count_1 ++ dktX14_count_2
def dkwX14_count_0 : List UInt8 := [42, 3, 181, 0, 148, 42, 182, 0, 232, 27]
abbrev dktX14_count_0 : List UInt8 := dkwX14_count_0 ++ dktX14_count_1
theorem dksX14_count_0 : cX14_count.data.toList.drop 0 = dktX14_count_0 := by decide +kernel
theorem dksX14_count_1 : cX14_count.data.toList.drop 10 = dktX14_count_1 := dk_seg dksX14_count_0 10 rfl rfl
theorem dksX14_count_2 : cX14_count.data.toList.drop 52 = dktX14_count_2 := dk_seg dksX14_count_1 42 rfl rfl
theorem dksX14_count_3 : cX14_count.data.toList.drop 76 = dktX14_count_3 := dk_seg dksX14_count_2 24 rfl rfl
theorem dX14_count_0 : decode cX14_count 0 = .ok (.aload_n 0, 1) := dk_42 (dk_at dksX14_count_0 0 rfl rfl)
theorem dX14_count_1 : decode cX14_count 1 = .ok (.iconst 0, 1) := dk_3 (dk_at dksX14_count_0 1 rfl rfl)
theorem dX14_count_2 : decode cX14_count 2 = .ok (.putfield 148, 3) := dk_181 0 148 (dk_at dksX14_count_0 2 rfl rfl)
theorem dX14_count_5 : decode cX14_count 5 = .ok (.aload_n 0, 1) := dk_42 (dk_at dksX14_count_0 5 rfl rfl)
theorem dX14_count_6 : decode cX14_count 6 = .ok (.invokevirtual 232, 3) := dk_182 0 232 (dk_at dksX14_count_0 6 rfl rfl)
theorem dX14_count_9 : decode cX14_count 9 = .ok (.iload_n 1, 1) := dk_27 (dk_at dksX14_count_0 9 rfl rfl)
theorem dX14_count_10 : decode cX14_count 10 = .ok (.tableswitch 88 0 6 #[42, 47, 52, 60, 67, 76, 81], 42) := by decide +kernel
theorem dX14_count_52 : decode cX14_count 52 = .ok (.aload_n 0, 1) := dk_42 (dk_at dksX14_count_2 0 rfl rfl)
theorem dX14_count_53 : decode cX14_count 53 = .ok (.invokevirtual 288, 3) := dk_182 1 32 (dk_at dksX14_count_2 1 rfl rfl)
theorem dX14_count_56 : decode cX14_count 56 = .ok (.ireturn, 1) := dk_172 (dk_at dksX14_count_2 4 rfl rfl)
theorem dX14_count_57 : decode cX14_count 57 = .ok (.aload_n 0, 1) := dk_42 (dk_at dksX14_count_2 5 rfl rfl)
theorem dX14_count_58 : decode cX14_count 58 = .ok (.invokevirtual 298, 3) := dk_182 1 42 (dk_at dksX14_count_2 6 rfl rfl)
theorem dX14_count_61 : decode cX14_count 61 = .ok (.ireturn, 1) := dk_172 (dk_at dksX14_count_2 9 rfl rfl)
theorem dX14_count_62 : decode cX14_count 62 = .ok (.aload_n 0, 1) := dk_42 (dk_at dksX14_count_2 10 rfl rfl)
theorem dX14_count_63 : decode cX14_count 63 = .ok (.getfield 13, 3) := dk_180 0 13 (dk_at dksX14_count_2 11 rfl rfl)
theorem dX14_count_66 : decode cX14_count 66 = .ok (.bipush 10, 2) := dk_16 10 (dk_at dksX14_count_2 14 rfl rfl)
theorem dX14_count_68 : decode cX14_count 68 = .ok (.iaload, 1) := dk_46 (dk_at dksX14_count_2 16 rfl rfl)
theorem dX14_count_69 : decode cX14_count 69 = .ok (.ireturn, 1) := dk_172 (dk_at dksX14_count_2 17 rfl rfl)
theorem dX14_count_70 : decode cX14_count 70 = .ok (.aload_n 0, 1) := dk_42 (dk_at dksX14_count_2 18 rfl rfl)
theorem dX14_count_71 : decode cX14_count 71 = .ok (.getfield 13, 3) := dk_180 0 13 (dk_at dksX14_count_2 19 rfl rfl)
theorem dX14_count_74 : decode cX14_count 74 = .ok (.iconst 2, 1) := dk_5 (dk_at dksX14_count_2 22 rfl rfl)
theorem dX14_count_75 : decode cX14_count 75 = .ok (.iaload, 1) := dk_46 (dk_at dksX14_count_2 23 rfl rfl)
theorem dX14_count_76 : decode cX14_count 76 = .ok (.ireturn, 1) := dk_172 (dk_at dksX14_count_3 0 rfl rfl)
theorem dX14_count_77 : decode cX14_count 77 = .ok (.aload_n 0, 1) := dk_42 (dk_at dksX14_count_3 1 rfl rfl)
theorem dX14_count_78 : decode cX14_count 78 = .ok (.getfield 13, 3) := dk_180 0 13 (dk_at dksX14_count_3 2 rfl rfl)
theorem dX14_count_81 : decode cX14_count 81 = .ok (.sipush 200, 3) := dk_17 0 200 (dk_at dksX14_count_3 5 rfl rfl)
theorem dX14_count_84 : decode cX14_count 84 = .ok (.iaload, 1) := dk_46 (dk_at dksX14_count_3 8 rfl rfl)
theorem dX14_count_85 : decode cX14_count 85 = .ok (.ireturn, 1) := dk_172 (dk_at dksX14_count_3 9 rfl rfl)
theorem dX14_count_86 : decode cX14_count 86 = .ok (.aload_n 0, 1) := dk_42 (dk_at dksX14_count_3 10 rfl rfl)
theorem dX14_count_87 : decode cX14_count 87 = .ok (.getfield 151, 3) := dk_180 0 151 (dk_at dksX14_count_3 11 rfl rfl)
theorem dX14_count_90 : decode cX14_count 90 = .ok (.ireturn, 1) := dk_172 (dk_at dksX14_count_3 14 rfl rfl)
theorem dX14_count_91 : decode cX14_count 91 = .ok (.aload_n 0, 1) := dk_42 (dk_at dksX14_count_3 15 rfl rfl)
theorem dX14_count_92 : decode cX14_count 92 = .ok (.getfield 13, 3) := dk_180 0 13 (dk_at dksX14_count_3 16 rfl rfl)
theorem dX14_count_95 : decode cX14_count 95 = .ok (.iconst 1, 1) := dk_4 (dk_at dksX14_count_3 19 rfl rfl)
theorem dX14_count_96 : decode cX14_count 96 = .ok (.iaload, 1) := dk_46 (dk_at dksX14_count_3 20 rfl rfl)
theorem dX14_count_97 : decode cX14_count 97 = .ok (.ireturn, 1) := dk_172 (dk_at dksX14_count_3 21 rfl rfl)
theorem dX14_count_98 : decode cX14_count 98 = .ok (.iconst (-1), 1) := dk_2 (dk_at dksX14_count_3 22 rfl rfl)
theorem dX14_count_99 : decode cX14_count 99 = .ok (.ireturn, 1) := dk_172 (dk_at dksX14_count_3 23 rfl rfl)
theorem q118 : (Jvm.Cond.initialized "PailRowModel") ∈ lw_all := lw_g (lw_at lw_m1 16 rfl) rfl
theorem q1611 : (Jvm.Cond.instantiable "PailRowModel" (91 : Nat)) ∈ lw_all := lw_g (lw_at lw_m7 69 rfl) rfl
theorem q1613 : (Jvm.Cond.instanceMethod ({ cls := "PailRowModel", name := "<init>", desc := "()V" } : Jvm.MethodName)) ∈ lw_all := lw_g (lw_at lw_m7 71 rfl) rfl
theorem q1614 : (Jvm.Cond.code ({ cls := "PailRowModel", name := "<init>", desc := "()V" } : Jvm.MethodName) prog_23_method_1_code (1 : Nat) (Option.none : Option Jvm.ClassFile.FieldType)) ∈ lw_all := lw_g (lw_at lw_m7 72 rfl) rfl
theorem q1615 : (Jvm.Cond.methodLink "PailRowModel" (1 : Nat) ({ cls := "java/lang/Object", name := "<init>", desc := "()V" } : Jvm.MethodName)) ∈ lw_all := lw_g (lw_at lw_m7 73 rfl) rfl
theorem q1616 : (Jvm.Cond.fieldLink "PailRowModel" (148 : Nat) "PailRowModel" "thrown" "I") ∈ lw_all := lw_g (lw_at lw_m7 74 rfl) rfl
theorem q1617 : (Jvm.Cond.fieldLink "PailRowModel" (7 : Nat) "PailRowModel" "tape" "[I") ∈ lw_all := lw_g (lw_at lw_m7 75 rfl) rfl
theorem q1618 : (Jvm.Cond.fieldLink "PailRowModel" (151 : Nat) "PailRowModel" "taped" "I") ∈ lw_all := lw_g (lw_at lw_m7 76 rfl) rfl
theorem q1619 : (Jvm.Cond.fieldLink "PailRowModel" (158 : Nat) "PailRowModel" "size" "I") ∈ lw_all := lw_g (lw_at lw_m7 77 rfl) rfl
theorem q1620 : (Jvm.Cond.fieldLink "PailRowModel" (167 : Nat) "PailRowModel" "limit" "I") ∈ lw_all := lw_g (lw_at lw_m7 78 rfl) rfl
theorem q1621 : (Jvm.Cond.fieldLink "PailRowModel" (161 : Nat) "PailRowModel" "to" "I") ∈ lw_all := lw_g (lw_at lw_m7 79 rfl) rfl
theorem q1622 : (Jvm.Cond.fieldLink "PailRowModel" (164 : Nat) "PailRowModel" "from" "I") ∈ lw_all := lw_g (lw_at lw_m7 80 rfl) rfl
theorem q1623 : (Jvm.Cond.fieldLink "PailRowModel" (170 : Nat) "PailRowModel" "kind" "I") ∈ lw_all := lw_g (lw_at lw_m7 81 rfl) rfl
theorem q1624 : (Jvm.Cond.fieldLink "PailRowModel" (187 : Nat) "PailRowModel" "number" "I") ∈ lw_all := lw_g (lw_at lw_m7 82 rfl) rfl
theorem q1625 : (Jvm.Cond.fieldLink "PailRowModel" (180 : Nat) "PailRowModel" "sign" "I") ∈ lw_all := lw_g (lw_at lw_m7 83 rfl) rfl
theorem q1626 : (Jvm.Cond.fieldLink "PailRowModel" (210 : Nat) "PailRowModel" "fault" "I") ∈ lw_all := lw_g (lw_at lw_m7 84 rfl) rfl
theorem q1627 : (Jvm.Cond.fieldLink "PailRowModel" (213 : Nat) "PailRowModel" "at" "I") ∈ lw_all := lw_g (lw_at lw_m7 85 rfl) rfl
theorem q1628 : (Jvm.Cond.fieldLink "PailRowModel" (183 : Nat) "PailRowModel" "word" "J") ∈ lw_all := lw_g (lw_at lw_m7 86 rfl) rfl
theorem q1629 : (Jvm.Cond.fieldLink "PailRowModel" (223 : Nat) "PailRowModel" "told" "I") ∈ lw_all := lw_g (lw_at lw_m7 87 rfl) rfl
theorem q1630 : (Jvm.Cond.fieldLink "PailRowModel" (13 : Nat) "PailRowModel" "now" "[I") ∈ lw_all := lw_g (lw_at lw_m7 88 rfl) rfl
theorem q1631 : (Jvm.Cond.fieldLink "PailRowModel" (16 : Nat) "PailRowModel" "read" "[I") ∈ lw_all := lw_g (lw_at lw_m7 89 rfl) rfl
theorem q1632 : (Jvm.Cond.fieldLink "PailRowModel" (19 : Nat) "PailRowModel" "plan" "[I") ∈ lw_all := lw_g (lw_at lw_m7 90 rfl) rfl
theorem q1633 : (Jvm.Cond.fieldLink "PailRowModel" (22 : Nat) "PailRowModel" "kept" "[I") ∈ lw_all := lw_g (lw_at lw_m7 91 rfl) rfl
theorem q1634 : (Jvm.Cond.fieldLink "PailRowModel" (25 : Nat) "PailRowModel" "name" "[J") ∈ lw_all := lw_g (lw_at lw_m7 92 rfl) rfl
theorem q1635 : (Jvm.Cond.fieldLink "PailRowModel" (29 : Nat) "PailRowModel" "readName" "[J") ∈ lw_all := lw_g (lw_at lw_m7 93 rfl) rfl
theorem q1636 : (Jvm.Cond.fieldLink "PailRowModel" (32 : Nat) "PailRowModel" "keptName" "[J") ∈ lw_all := lw_g (lw_at lw_m7 94 rfl) rfl
theorem q1637 : (Jvm.Cond.fieldLink "PailRowModel" (35 : Nat) "PailRowModel" "isKept" "[Z") ∈ lw_all := lw_g (lw_at lw_m7 95 rfl) rfl
theorem q1638 : (Jvm.Cond.fieldLink "PailRowModel" (239 : Nat) "PailRowModel" "isBegun" "Z") ∈ lw_all := lw_g (lw_at lw_m7 96 rfl) rfl
theorem q1639 : (Jvm.Cond.fieldLink "PailRowModel" (255 : Nat) "PailRowModel" "had" "I") ∈ lw_all := lw_g (lw_at lw_m7 97 rfl) rfl
theorem q1640 : (Jvm.Cond.fieldLink "PailRowModel" (39 : Nat) "PailRowModel" "team" "[I") ∈ lw_all := lw_g (lw_at lw_m7 98 rfl) rfl
theorem q1641 : (Jvm.Cond.fieldLink "PailRowModel" (42 : Nat) "PailRowModel" "rest" "[I") ∈ lw_all := lw_g (lw_at lw_m7 99 rfl) rfl
theorem q1642 : (Jvm.Cond.fieldLink "PailRowModel" (45 : Nat) "PailRowModel" "load" "[I") ∈ lw_all := lw_g (lw_at lw_m7 100 rfl) rfl
theorem q1643 : (Jvm.Cond.fieldLink "PailRowModel" (48 : Nat) "PailRowModel" "done" "[I") ∈ lw_all := lw_g (lw_at lw_m7 101 rfl) rfl
theorem q1644 : (Jvm.Cond.fieldLink "PailRowModel" (51 : Nat) "PailRowModel" "queue" "[I") ∈ lw_all := lw_g (lw_at lw_m7 102 rfl) rfl
theorem q1645 : (Jvm.Cond.fieldLink "PailRowModel" (54 : Nat) "PailRowModel" "waits" "[I") ∈ lw_all := lw_g (lw_at lw_m7 103 rfl) rfl
theorem q1646 : (Jvm.Cond.fieldLink "PailRowModel" (57 : Nat) "PailRowModel" "most" "[I") ∈ lw_all := lw_g (lw_at lw_m7 104 rfl) rfl
theorem q1647 : (Jvm.Cond.fieldLink "PailRowModel" (60 : Nat) "PailRowModel" "comes" "[I") ∈ lw_all := lw_g (lw_at lw_m7 105 rfl) rfl
theorem q1648 : (Jvm.Cond.fieldLink "PailRowModel" (63 : Nat) "PailRowModel" "state" "[I") ∈ lw_all := lw_g (lw_at lw_m7 106 rfl) rfl
theorem q1649 : (Jvm.Cond.fieldLink "PailRowModel" (304 : Nat) "PailRowModel" "teamMany" "I") ∈ lw_all := lw_g (lw_at lw_m7 107 rfl) rfl
theorem q1650 : (Jvm.Cond.fieldLink "PailRowModel" (301 : Nat) "PailRowModel" "teamKind" "I") ∈ lw_all := lw_g (lw_at lw_m7 108 rfl) rfl
theorem q1651 : (Jvm.Cond.fieldLink "PailRowModel" (334 : Nat) "PailRowModel" "well" "I") ∈ lw_all := lw_g (lw_at lw_m7 109 rfl) rfl
theorem q1652 : (Jvm.Cond.fieldLink "PailRowModel" (307 : Nat) "PailRowModel" "tick" "I") ∈ lw_all := lw_g (lw_at lw_m7 110 rfl) rfl
theorem q1653 : (Jvm.Cond.fieldLink "PailRowModel" (310 : Nat) "PailRowModel" "empty" "I") ∈ lw_all := lw_g (lw_at lw_m7 111 rfl) rfl
theorem q1654 : (Jvm.Cond.fieldLink "PailRowModel" (313 : Nat) "PailRowModel" "away" "I") ∈ lw_all := lw_g (lw_at lw_m7 112 rfl) rfl
theorem q1655 : (Jvm.Cond.fieldLink "PailRowModel" (316 : Nat) "PailRowModel" "litresThrown" "I") ∈ lw_all := lw_g (lw_at lw_m7 113 rfl) rfl
theorem q1656 : (Jvm.Cond.fieldLink "PailRowModel" (319 : Nat) "PailRowModel" "spilt" "I") ∈ lw_all := lw_g (lw_at lw_m7 114 rfl) rfl
theorem q1657 : (Jvm.Cond.fieldLink "PailRowModel" (322 : Nat) "PailRowModel" "pailsThrown" "I") ∈ lw_all := lw_g (lw_at lw_m7 115 rfl) rfl
theorem q1658 : (Jvm.Cond.fieldLink "PailRowModel" (325 : Nat) "PailRowModel" "drawn" "I") ∈ lw_all := lw_g (lw_at lw_m7 116 rfl) rfl
theorem q1659 : (Jvm.Cond.fieldLink "PailRowModel" (66 : Nat) "PailRowModel" "rowBy" "[I") ∈ lw_all := lw_g (lw_at lw_m7 117 rfl) rfl
theorem q1660 : (Jvm.Cond.fieldLink "PailRowModel" (69 : Nat) "PailRowModel" "rowDone" "[I") ∈ lw_all := lw_g (lw_at lw_m7 118 rfl) rfl
theorem q1661 : (Jvm.Cond.fieldLink "PailRowModel" (380 : Nat) "PailRowModel" "rowMany" "I") ∈ lw_all := lw_g (lw_at lw_m7 119 rfl) rfl
theorem q1662 : (Jvm.Cond.fieldLink "PailRowModel" (72 : Nat) "PailRowModel" "order" "[I") ∈ lw_all := lw_g (lw_at lw_m7 120 rfl) rfl
theorem q1663 : (Jvm.Cond.fieldLink "PailRowModel" (75 : Nat) "PailRowModel" "asked" "[I") ∈ lw_all := lw_g (lw_at lw_m7 121 rfl) rfl
theorem q1664 : (Jvm.Cond.fieldLink "PailRowModel" (78 : Nat) "PailRowModel" "bestRow" "[I") ∈ lw_all := lw_g (lw_at lw_m7 122 rfl) rfl
theorem q1665 : (Jvm.Cond.fieldLink "PailRowModel" (81 : Nat) "PailRowModel" "bestTold" "[I") ∈ lw_all := lw_g (lw_at lw_m7 123 rfl) rfl
theorem q1666 : (Jvm.Cond.fieldLink "PailRowModel" (386 : Nat) "PailRowModel" "bestPeriod" "I") ∈ lw_all := lw_g (lw_at lw_m7 124 rfl) rfl
theorem q1667 : (Jvm.Cond.fieldLink "PailRowModel" (396 : Nat) "PailRowModel" "bestMany" "I") ∈ lw_all := lw_g (lw_at lw_m7 125 rfl) rfl
theorem q1668 : (Jvm.Cond.fieldLink "PailRowModel" (389 : Nat) "PailRowModel" "askedMany" "I") ∈ lw_all := lw_g (lw_at lw_m7 126 rfl) rfl
theorem q1669 : (Jvm.Cond.fieldLink "PailRowModel" (84 : Nat) "PailRowModel" "beside" "[I") ∈ lw_all := lw_g (lw_at lw_m7 127 rfl) rfl
theorem q1670 : (Jvm.Cond.fieldLink "PailRowModel" (87 : Nat) "PailRowModel" "besideTold" "[I") ∈ lw_all := lw_g (lw_at lw_m7 128 rfl) rfl
theorem q1671 : (Jvm.Cond.fieldLink "PailRowModel" (405 : Nat) "PailRowModel" "besideMany" "I") ∈ lw_all := lw_g (lw_at lw_m7 129 rfl) rfl
theorem q1672 : (Jvm.Cond.fieldLink "PailRowModel" (90 : Nat) "PailRowModel" "power" "[I") ∈ lw_all := lw_g (lw_at lw_m7 130 rfl) rfl
theorem q1673 : (Jvm.Cond.fieldLink "PailRowModel" (93 : Nat) "PailRowModel" "house" "[I") ∈ lw_all := lw_g (lw_at lw_m7 131 rfl) rfl
theorem q1674 : (Jvm.Cond.fieldLink "PailRowModel" (96 : Nat) "PailRowModel" "hook" "[I") ∈ lw_all := lw_g (lw_at lw_m7 132 rfl) rfl
theorem q1675 : (Jvm.Cond.fieldLink "PailRowModel" (99 : Nat) "PailRowModel" "hookBest" "[I") ∈ lw_all := lw_g (lw_at lw_m7 133 rfl) rfl
theorem q1676 : (Jvm.Cond.fieldLink "PailRowModel" (102 : Nat) "PailRowModel" "hookTold" "[I") ∈ lw_all := lw_g (lw_at lw_m7 134 rfl) rfl
theorem q1677 : (Jvm.Cond.fieldLink "PailRowModel" (411 : Nat) "PailRowModel" "houses" "I") ∈ lw_all := lw_g (lw_at lw_m7 135 rfl) rfl
theorem q1678 : (Jvm.Cond.fieldLink "PailRowModel" (414 : Nat) "PailRowModel" "hookLeast" "I") ∈ lw_all := lw_g (lw_at lw_m7 136 rfl) rfl
theorem q1679 : (Jvm.Cond.fieldLink "PailRowModel" (420 : Nat) "PailRowModel" "hookMany" "I") ∈ lw_all := lw_g (lw_at lw_m7 137 rfl) rfl
theorem q1680 : (Jvm.Cond.fieldLink "PailRowModel" (105 : Nat) "PailRowModel" "fuel" "[I") ∈ lw_all := lw_g (lw_at lw_m7 138 rfl) rfl
theorem q1681 : (Jvm.Cond.fieldLink "PailRowModel" (108 : Nat) "PailRowModel" "burn" "[I") ∈ lw_all := lw_g (lw_at lw_m7 139 rfl) rfl
theorem q1682 : (Jvm.Cond.fieldLink "PailRowModel" (111 : Nat) "PailRowModel" "wet" "[I") ∈ lw_all := lw_g (lw_at lw_m7 140 rfl) rfl
theorem q1683 : (Jvm.Cond.fieldLink "PailRowModel" (114 : Nat) "PailRowModel" "heat" "[I") ∈ lw_all := lw_g (lw_at lw_m7 141 rfl) rfl
theorem q1684 : (Jvm.Cond.fieldLink "PailRowModel" (117 : Nat) "PailRowModel" "fuelWas" "[I") ∈ lw_all := lw_g (lw_at lw_m7 142 rfl) rfl
theorem q1685 : (Jvm.Cond.fieldLink "PailRowModel" (120 : Nat) "PailRowModel" "burnWas" "[I") ∈ lw_all := lw_g (lw_at lw_m7 143 rfl) rfl
theorem q1686 : (Jvm.Cond.fieldLink "PailRowModel" (423 : Nat) "PailRowModel" "lost" "I") ∈ lw_all := lw_g (lw_at lw_m7 144 rfl) rfl
theorem q1687 : (Jvm.Cond.fieldLink "PailRowModel" (439 : Nat) "PailRowModel" "outAt" "I") ∈ lw_all := lw_g (lw_at lw_m7 145 rfl) rfl
theorem q1688 : (Jvm.Cond.fieldLink "PailRowModel" (123 : Nat) "PailRowModel" "fireCell" "[I") ∈ lw_all := lw_g (lw_at lw_m7 146 rfl) rfl
theorem q1689 : (Jvm.Cond.fieldLink "PailRowModel" (461 : Nat) "PailRowModel" "fireColumns" "I") ∈ lw_all := lw_g (lw_at lw_m7 147 rfl) rfl
theorem q1690 : (Jvm.Cond.fieldLink "PailRowModel" (464 : Nat) "PailRowModel" "fireRows" "I") ∈ lw_all := lw_g (lw_at lw_m7 148 rfl) rfl
theorem q1691 : (Jvm.Cond.fieldLink "PailRowModel" (126 : Nat) "PailRowModel" "fireOut" "I") ∈ lw_all := lw_g (lw_at lw_m7 149 rfl) rfl
theorem q1692 : (Jvm.Cond.fieldLink "PailRowModel" (458 : Nat) "PailRowModel" "wasFire" "Z") ∈ lw_all := lw_g (lw_at lw_m7 150 rfl) rfl
theorem q1693 : (Jvm.Cond.fieldLink "PailRowModel" (130 : Nat) "PailRowModel" "stood" "[I") ∈ lw_all := lw_g (lw_at lw_m7 151 rfl) rfl
theorem q1694 : (Jvm.Cond.fieldLink "PailRowModel" (133 : Nat) "PailRowModel" "aimRow" "[I") ∈ lw_all := lw_g (lw_at lw_m7 152 rfl) rfl
theorem q1695 : (Jvm.Cond.fieldLink "PailRowModel" (136 : Nat) "PailRowModel" "aimBest" "[I") ∈ lw_all := lw_g (lw_at lw_m7 153 rfl) rfl
theorem q1696 : (Jvm.Cond.fieldLink "PailRowModel" (139 : Nat) "PailRowModel" "aimTold" "[I") ∈ lw_all := lw_g (lw_at lw_m7 154 rfl) rfl
theorem q1697 : (Jvm.Cond.fieldLink "PailRowModel" (470 : Nat) "PailRowModel" "aimLeast" "I") ∈ lw_all := lw_g (lw_at lw_m7 155 rfl) rfl
theorem q1698 : (Jvm.Cond.fieldLink "PailRowModel" (467 : Nat) "PailRowModel" "aimMany" "I") ∈ lw_all := lw_g (lw_at lw_m7 156 rfl) rfl
theorem q1699 : (Jvm.Cond.fieldLink "PailRowModel" (482 : Nat) "PailRowModel" "aimToldMany" "I") ∈ lw_all := lw_g (lw_at lw_m7 157 rfl) rfl
theorem q1700 : (Jvm.Cond.fieldLink "PailRowModel" (491 : Nat) "PailRowModel" "planMany" "I") ∈ lw_all := lw_g (lw_at lw_m7 158 rfl) rfl
theorem q1701 : (Jvm.Cond.fieldLink "PailRowModel" (142 : Nat) "PailRowModel" "night" "[I") ∈ lw_all := lw_g (lw_at lw_m7 159 rfl) rfl
theorem q1702 : (Jvm.Cond.fieldLink "PailRowModel" (145 : Nat) "PailRowModel" "node" "[I") ∈ lw_all := lw_g (lw_at lw_m7 160 rfl) rfl
theorem q1703 : (Jvm.Cond.fieldLink "PailRowModel" (503 : Nat) "PailRowModel" "nodes" "I") ∈ lw_all := lw_g (lw_at lw_m7 161 rfl) rfl
theorem q1704 : (Jvm.Cond.fieldLink "PailRowModel" (518 : Nat) "PailRowModel" "ones" "I") ∈ lw_all := lw_g (lw_at lw_m7 162 rfl) rfl
theorem q1705 : (Jvm.Cond.fieldLink "PailRowModel" (521 : Nat) "PailRowModel" "within" "I") ∈ lw_all := lw_g (lw_at lw_m7 163 rfl) rfl
theorem q1706 : (Jvm.Cond.fieldLink "PailRowModel" (509 : Nat) "PailRowModel" "top" "I") ∈ lw_all := lw_g (lw_at lw_m7 164 rfl) rfl
theorem q1707 : (Jvm.Cond.lays "PailRowModel" "PailRowModel" "thrown" "I") ∈ lw_all := lw_g (lw_at lw_m7 165 rfl) rfl
theorem q1708 : (Jvm.Cond.soleField "PailRowModel" "thrown") ∈ lw_all := lw_g (lw_at lw_m7 166 rfl) rfl
theorem q1709 : (Jvm.Cond.laysFinal "PailRowModel" "PailRowModel" "tape" "[I") ∈ lw_all := lw_g (lw_at lw_m7 167 rfl) rfl
theorem q1710 : (Jvm.Cond.soleField "PailRowModel" "tape") ∈ lw_all := lw_g (lw_at lw_m7 168 rfl) rfl
theorem q1711 : (Jvm.Cond.lays "PailRowModel" "PailRowModel" "taped" "I") ∈ lw_all := lw_g (lw_at lw_m7 169 rfl) rfl
theorem q1712 : (Jvm.Cond.soleField "PailRowModel" "taped") ∈ lw_all := lw_g (lw_at lw_m7 170 rfl) rfl
theorem q1713 : (Jvm.Cond.lays "PailRowModel" "PailRowModel" "size" "I") ∈ lw_all := lw_g (lw_at lw_m7 171 rfl) rfl
theorem q1714 : (Jvm.Cond.soleField "PailRowModel" "size") ∈ lw_all := lw_g (lw_at lw_m7 172 rfl) rfl
theorem q1715 : (Jvm.Cond.lays "PailRowModel" "PailRowModel" "limit" "I") ∈ lw_all := lw_g (lw_at lw_m7 173 rfl) rfl
theorem q1716 : (Jvm.Cond.soleField "PailRowModel" "limit") ∈ lw_all := lw_g (lw_at lw_m7 174 rfl) rfl
theorem q1717 : (Jvm.Cond.lays "PailRowModel" "PailRowModel" "to" "I") ∈ lw_all := lw_g (lw_at lw_m7 175 rfl) rfl
theorem q1718 : (Jvm.Cond.soleField "PailRowModel" "to") ∈ lw_all := lw_g (lw_at lw_m7 176 rfl) rfl
theorem q1719 : (Jvm.Cond.lays "PailRowModel" "PailRowModel" "from" "I") ∈ lw_all := lw_g (lw_at lw_m7 177 rfl) rfl
theorem q1720 : (Jvm.Cond.soleField "PailRowModel" "from") ∈ lw_all := lw_g (lw_at lw_m7 178 rfl) rfl
theorem q1721 : (Jvm.Cond.lays "PailRowModel" "PailRowModel" "kind" "I") ∈ lw_all := lw_g (lw_at lw_m7 179 rfl) rfl
theorem q1722 : (Jvm.Cond.soleField "PailRowModel" "kind") ∈ lw_all := lw_g (lw_at lw_m7 180 rfl) rfl
theorem q1723 : (Jvm.Cond.lays "PailRowModel" "PailRowModel" "number" "I") ∈ lw_all := lw_g (lw_at lw_m7 181 rfl) rfl
theorem q1724 : (Jvm.Cond.soleField "PailRowModel" "number") ∈ lw_all := lw_g (lw_at lw_m7 182 rfl) rfl
theorem q1725 : (Jvm.Cond.lays "PailRowModel" "PailRowModel" "sign" "I") ∈ lw_all := lw_g (lw_at lw_m7 183 rfl) rfl
theorem q1726 : (Jvm.Cond.soleField "PailRowModel" "sign") ∈ lw_all := lw_g (lw_at lw_m7 184 rfl) rfl
theorem q1727 : (Jvm.Cond.lays "PailRowModel" "PailRowModel" "fault" "I") ∈ lw_all := lw_g (lw_at lw_m7 185 rfl) rfl
theorem q1728 : (Jvm.Cond.soleField "PailRowModel" "fault") ∈ lw_all := lw_g (lw_at lw_m7 186 rfl) rfl
theorem q1729 : (Jvm.Cond.lays "PailRowModel" "PailRowModel" "at" "I") ∈ lw_all := lw_g (lw_at lw_m7 187 rfl) rfl
theorem q1730 : (Jvm.Cond.soleField "PailRowModel" "at") ∈ lw_all := lw_g (lw_at lw_m7 188 rfl) rfl
theorem q1731 : (Jvm.Cond.lays "PailRowModel" "PailRowModel" "word" "J") ∈ lw_all := lw_g (lw_at lw_m7 189 rfl) rfl
theorem q1732 : (Jvm.Cond.soleField "PailRowModel" "word") ∈ lw_all := lw_g (lw_at lw_m7 190 rfl) rfl
theorem q1733 : (Jvm.Cond.lays "PailRowModel" "PailRowModel" "told" "I") ∈ lw_all := lw_g (lw_at lw_m7 191 rfl) rfl
theorem q1734 : (Jvm.Cond.soleField "PailRowModel" "told") ∈ lw_all := lw_g (lw_at lw_m7 192 rfl) rfl
theorem q1735 : (Jvm.Cond.laysFinal "PailRowModel" "PailRowModel" "now" "[I") ∈ lw_all := lw_g (lw_at lw_m7 193 rfl) rfl
theorem q1736 : (Jvm.Cond.soleField "PailRowModel" "now") ∈ lw_all := lw_g (lw_at lw_m7 194 rfl) rfl
theorem q1737 : (Jvm.Cond.laysFinal "PailRowModel" "PailRowModel" "read" "[I") ∈ lw_all := lw_g (lw_at lw_m7 195 rfl) rfl
theorem q1738 : (Jvm.Cond.soleField "PailRowModel" "read") ∈ lw_all := lw_g (lw_at lw_m7 196 rfl) rfl
theorem q1739 : (Jvm.Cond.laysFinal "PailRowModel" "PailRowModel" "plan" "[I") ∈ lw_all := lw_g (lw_at lw_m7 197 rfl) rfl
theorem q1740 : (Jvm.Cond.soleField "PailRowModel" "plan") ∈ lw_all := lw_g (lw_at lw_m7 198 rfl) rfl
theorem q1741 : (Jvm.Cond.laysFinal "PailRowModel" "PailRowModel" "kept" "[I") ∈ lw_all := lw_g (lw_at lw_m7 199 rfl) rfl
theorem q1742 : (Jvm.Cond.soleField "PailRowModel" "kept") ∈ lw_all := lw_g (lw_at lw_m7 200 rfl) rfl
theorem q1743 : (Jvm.Cond.laysFinal "PailRowModel" "PailRowModel" "name" "[J") ∈ lw_all := lw_g (lw_at lw_m7 201 rfl) rfl
theorem q1744 : (Jvm.Cond.soleField "PailRowModel" "name") ∈ lw_all := lw_g (lw_at lw_m7 202 rfl) rfl
theorem q1745 : (Jvm.Cond.laysFinal "PailRowModel" "PailRowModel" "readName" "[J") ∈ lw_all := lw_g (lw_at lw_m7 203 rfl) rfl
theorem q1746 : (Jvm.Cond.soleField "PailRowModel" "readName") ∈ lw_all := lw_g (lw_at lw_m7 204 rfl) rfl
theorem q1747 : (Jvm.Cond.laysFinal "PailRowModel" "PailRowModel" "keptName" "[J") ∈ lw_all := lw_g (lw_at lw_m7 205 rfl) rfl
theorem q1748 : (Jvm.Cond.soleField "PailRowModel" "keptName") ∈ lw_all := lw_g (lw_at lw_m7 206 rfl) rfl
theorem q1749 : (Jvm.Cond.laysFinal "PailRowModel" "PailRowModel" "isKept" "[Z") ∈ lw_all := lw_g (lw_at lw_m7 207 rfl) rfl
theorem q1750 : (Jvm.Cond.soleField "PailRowModel" "isKept") ∈ lw_all := lw_g (lw_at lw_m7 208 rfl) rfl
theorem q1751 : (Jvm.Cond.lays "PailRowModel" "PailRowModel" "isBegun" "Z") ∈ lw_all := lw_g (lw_at lw_m7 209 rfl) rfl
theorem q1752 : (Jvm.Cond.soleField "PailRowModel" "isBegun") ∈ lw_all := lw_g (lw_at lw_m7 210 rfl) rfl
theorem q1753 : (Jvm.Cond.lays "PailRowModel" "PailRowModel" "had" "I") ∈ lw_all := lw_g (lw_at lw_m7 211 rfl) rfl
theorem q1754 : (Jvm.Cond.soleField "PailRowModel" "had") ∈ lw_all := lw_g (lw_at lw_m7 212 rfl) rfl
theorem q1755 : (Jvm.Cond.laysFinal "PailRowModel" "PailRowModel" "team" "[I") ∈ lw_all := lw_g (lw_at lw_m7 213 rfl) rfl
theorem q1756 : (Jvm.Cond.soleField "PailRowModel" "team") ∈ lw_all := lw_g (lw_at lw_m7 214 rfl) rfl
theorem q1757 : (Jvm.Cond.laysFinal "PailRowModel" "PailRowModel" "rest" "[I") ∈ lw_all := lw_g (lw_at lw_m7 215 rfl) rfl
theorem q1758 : (Jvm.Cond.soleField "PailRowModel" "rest") ∈ lw_all := lw_g (lw_at lw_m7 216 rfl) rfl
theorem q1759 : (Jvm.Cond.laysFinal "PailRowModel" "PailRowModel" "load" "[I") ∈ lw_all := lw_g (lw_at lw_m7 217 rfl) rfl
theorem q1760 : (Jvm.Cond.soleField "PailRowModel" "load") ∈ lw_all := lw_g (lw_at lw_m7 218 rfl) rfl
theorem q1761 : (Jvm.Cond.laysFinal "PailRowModel" "PailRowModel" "done" "[I") ∈ lw_all := lw_g (lw_at lw_m7 219 rfl) rfl
theorem q1762 : (Jvm.Cond.soleField "PailRowModel" "done") ∈ lw_all := lw_g (lw_at lw_m7 220 rfl) rfl
theorem q1763 : (Jvm.Cond.laysFinal "PailRowModel" "PailRowModel" "queue" "[I") ∈ lw_all := lw_g (lw_at lw_m7 221 rfl) rfl
theorem q1764 : (Jvm.Cond.soleField "PailRowModel" "queue") ∈ lw_all := lw_g (lw_at lw_m7 222 rfl) rfl
theorem q1765 : (Jvm.Cond.laysFinal "PailRowModel" "PailRowModel" "waits" "[I") ∈ lw_all := lw_g (lw_at lw_m7 223 rfl) rfl
theorem q1766 : (Jvm.Cond.soleField "PailRowModel" "waits") ∈ lw_all := lw_g (lw_at lw_m7 224 rfl) rfl
theorem q1767 : (Jvm.Cond.laysFinal "PailRowModel" "PailRowModel" "most" "[I") ∈ lw_all := lw_g (lw_at lw_m7 225 rfl) rfl
theorem q1768 : (Jvm.Cond.soleField "PailRowModel" "most") ∈ lw_all := lw_g (lw_at lw_m7 226 rfl) rfl
theorem q1769 : (Jvm.Cond.laysFinal "PailRowModel" "PailRowModel" "comes" "[I") ∈ lw_all := lw_g (lw_at lw_m7 227 rfl) rfl
theorem q1770 : (Jvm.Cond.soleField "PailRowModel" "comes") ∈ lw_all := lw_g (lw_at lw_m7 228 rfl) rfl
theorem q1771 : (Jvm.Cond.laysFinal "PailRowModel" "PailRowModel" "state" "[I") ∈ lw_all := lw_g (lw_at lw_m7 229 rfl) rfl
theorem q1772 : (Jvm.Cond.soleField "PailRowModel" "state") ∈ lw_all := lw_g (lw_at lw_m7 230 rfl) rfl
theorem q1773 : (Jvm.Cond.lays "PailRowModel" "PailRowModel" "teamMany" "I") ∈ lw_all := lw_g (lw_at lw_m7 231 rfl) rfl
theorem q1774 : (Jvm.Cond.soleField "PailRowModel" "teamMany") ∈ lw_all := lw_g (lw_at lw_m7 232 rfl) rfl
theorem q1775 : (Jvm.Cond.lays "PailRowModel" "PailRowModel" "teamKind" "I") ∈ lw_all := lw_g (lw_at lw_m7 233 rfl) rfl
theorem q1776 : (Jvm.Cond.soleField "PailRowModel" "teamKind") ∈ lw_all := lw_g (lw_at lw_m7 234 rfl) rfl
theorem q1777 : (Jvm.Cond.lays "PailRowModel" "PailRowModel" "well" "I") ∈ lw_all := lw_g (lw_at lw_m7 235 rfl) rfl
theorem q1778 : (Jvm.Cond.soleField "PailRowModel" "well") ∈ lw_all := lw_g (lw_at lw_m7 236 rfl) rfl
theorem q1779 : (Jvm.Cond.lays "PailRowModel" "PailRowModel" "tick" "I") ∈ lw_all := lw_g (lw_at lw_m7 237 rfl) rfl
theorem q1780 : (Jvm.Cond.soleField "PailRowModel" "tick") ∈ lw_all := lw_g (lw_at lw_m7 238 rfl) rfl
theorem q1781 : (Jvm.Cond.lays "PailRowModel" "PailRowModel" "empty" "I") ∈ lw_all := lw_g (lw_at lw_m7 239 rfl) rfl
theorem q1782 : (Jvm.Cond.soleField "PailRowModel" "empty") ∈ lw_all := lw_g (lw_at lw_m8 0 rfl) rfl
theorem q1783 : (Jvm.Cond.lays "PailRowModel" "PailRowModel" "away" "I") ∈ lw_all := lw_g (lw_at lw_m8 1 rfl) rfl
theorem q1784 : (Jvm.Cond.soleField "PailRowModel" "away") ∈ lw_all := lw_g (lw_at lw_m8 2 rfl) rfl
theorem q1785 : (Jvm.Cond.lays "PailRowModel" "PailRowModel" "litresThrown" "I") ∈ lw_all := lw_g (lw_at lw_m8 3 rfl) rfl
theorem q1786 : (Jvm.Cond.soleField "PailRowModel" "litresThrown") ∈ lw_all := lw_g (lw_at lw_m8 4 rfl) rfl
theorem q1787 : (Jvm.Cond.lays "PailRowModel" "PailRowModel" "spilt" "I") ∈ lw_all := lw_g (lw_at lw_m8 5 rfl) rfl
theorem q1788 : (Jvm.Cond.soleField "PailRowModel" "spilt") ∈ lw_all := lw_g (lw_at lw_m8 6 rfl) rfl
theorem q1789 : (Jvm.Cond.lays "PailRowModel" "PailRowModel" "pailsThrown" "I") ∈ lw_all := lw_g (lw_at lw_m8 7 rfl) rfl
theorem q1790 : (Jvm.Cond.soleField "PailRowModel" "pailsThrown") ∈ lw_all := lw_g (lw_at lw_m8 8 rfl) rfl
theorem q1791 : (Jvm.Cond.lays "PailRowModel" "PailRowModel" "drawn" "I") ∈ lw_all := lw_g (lw_at lw_m8 9 rfl) rfl
theorem q1792 : (Jvm.Cond.soleField "PailRowModel" "drawn") ∈ lw_all := lw_g (lw_at lw_m8 10 rfl) rfl
theorem q1793 : (Jvm.Cond.laysFinal "PailRowModel" "PailRowModel" "rowBy" "[I") ∈ lw_all := lw_g (lw_at lw_m8 11 rfl) rfl
theorem q1794 : (Jvm.Cond.soleField "PailRowModel" "rowBy") ∈ lw_all := lw_g (lw_at lw_m8 12 rfl) rfl
theorem q1795 : (Jvm.Cond.laysFinal "PailRowModel" "PailRowModel" "rowDone" "[I") ∈ lw_all := lw_g (lw_at lw_m8 13 rfl) rfl
theorem q1796 : (Jvm.Cond.soleField "PailRowModel" "rowDone") ∈ lw_all := lw_g (lw_at lw_m8 14 rfl) rfl
theorem q1797 : (Jvm.Cond.lays "PailRowModel" "PailRowModel" "rowMany" "I") ∈ lw_all := lw_g (lw_at lw_m8 15 rfl) rfl
theorem q1798 : (Jvm.Cond.soleField "PailRowModel" "rowMany") ∈ lw_all := lw_g (lw_at lw_m8 16 rfl) rfl
theorem q1799 : (Jvm.Cond.laysFinal "PailRowModel" "PailRowModel" "order" "[I") ∈ lw_all := lw_g (lw_at lw_m8 17 rfl) rfl
theorem q1800 : (Jvm.Cond.soleField "PailRowModel" "order") ∈ lw_all := lw_g (lw_at lw_m8 18 rfl) rfl
theorem q1801 : (Jvm.Cond.laysFinal "PailRowModel" "PailRowModel" "asked" "[I") ∈ lw_all := lw_g (lw_at lw_m8 19 rfl) rfl
theorem q1802 : (Jvm.Cond.soleField "PailRowModel" "asked") ∈ lw_all := lw_g (lw_at lw_m8 20 rfl) rfl
theorem q1803 : (Jvm.Cond.laysFinal "PailRowModel" "PailRowModel" "bestRow" "[I") ∈ lw_all := lw_g (lw_at lw_m8 21 rfl) rfl
theorem q1804 : (Jvm.Cond.soleField "PailRowModel" "bestRow") ∈ lw_all := lw_g (lw_at lw_m8 22 rfl) rfl
theorem q1805 : (Jvm.Cond.laysFinal "PailRowModel" "PailRowModel" "bestTold" "[I") ∈ lw_all := lw_g (lw_at lw_m8 23 rfl) rfl
theorem q1806 : (Jvm.Cond.soleField "PailRowModel" "bestTold") ∈ lw_all := lw_g (lw_at lw_m8 24 rfl) rfl
theorem q1807 : (Jvm.Cond.lays "PailRowModel" "PailRowModel" "bestPeriod" "I") ∈ lw_all := lw_g (lw_at lw_m8 25 rfl) rfl
theorem q1808 : (Jvm.Cond.soleField "PailRowModel" "bestPeriod") ∈ lw_all := lw_g (lw_at lw_m8 26 rfl) rfl
theorem q1809 : (Jvm.Cond.lays "PailRowModel" "PailRowModel" "bestMany" "I") ∈ lw_all := lw_g (lw_at lw_m8 27 rfl) rfl
theorem q1810 : (Jvm.Cond.soleField "PailRowModel" "bestMany") ∈ lw_all := lw_g (lw_at lw_m8 28 rfl) rfl
theorem q1811 : (Jvm.Cond.lays "PailRowModel" "PailRowModel" "askedMany" "I") ∈ lw_all := lw_g (lw_at lw_m8 29 rfl) rfl
theorem q1812 : (Jvm.Cond.soleField "PailRowModel" "askedMany") ∈ lw_all := lw_g (lw_at lw_m8 30 rfl) rfl
theorem q1813 : (Jvm.Cond.laysFinal "PailRowModel" "PailRowModel" "beside" "[I") ∈ lw_all := lw_g (lw_at lw_m8 31 rfl) rfl
theorem q1814 : (Jvm.Cond.soleField "PailRowModel" "beside") ∈ lw_all := lw_g (lw_at lw_m8 32 rfl) rfl
theorem q1815 : (Jvm.Cond.laysFinal "PailRowModel" "PailRowModel" "besideTold" "[I") ∈ lw_all := lw_g (lw_at lw_m8 33 rfl) rfl
theorem q1816 : (Jvm.Cond.soleField "PailRowModel" "besideTold") ∈ lw_all := lw_g (lw_at lw_m8 34 rfl) rfl
theorem q1817 : (Jvm.Cond.lays "PailRowModel" "PailRowModel" "besideMany" "I") ∈ lw_all := lw_g (lw_at lw_m8 35 rfl) rfl
theorem q1818 : (Jvm.Cond.soleField "PailRowModel" "besideMany") ∈ lw_all := lw_g (lw_at lw_m8 36 rfl) rfl
theorem q1819 : (Jvm.Cond.laysFinal "PailRowModel" "PailRowModel" "power" "[I") ∈ lw_all := lw_g (lw_at lw_m8 37 rfl) rfl
theorem q1820 : (Jvm.Cond.soleField "PailRowModel" "power") ∈ lw_all := lw_g (lw_at lw_m8 38 rfl) rfl
theorem q1821 : (Jvm.Cond.laysFinal "PailRowModel" "PailRowModel" "house" "[I") ∈ lw_all := lw_g (lw_at lw_m8 39 rfl) rfl
theorem q1822 : (Jvm.Cond.soleField "PailRowModel" "house") ∈ lw_all := lw_g (lw_at lw_m8 40 rfl) rfl
theorem q1823 : (Jvm.Cond.laysFinal "PailRowModel" "PailRowModel" "hook" "[I") ∈ lw_all := lw_g (lw_at lw_m8 41 rfl) rfl
theorem q1824 : (Jvm.Cond.soleField "PailRowModel" "hook") ∈ lw_all := lw_g (lw_at lw_m8 42 rfl) rfl
theorem q1825 : (Jvm.Cond.laysFinal "PailRowModel" "PailRowModel" "hookBest" "[I") ∈ lw_all := lw_g (lw_at lw_m8 43 rfl) rfl
theorem q1826 : (Jvm.Cond.soleField "PailRowModel" "hookBest") ∈ lw_all := lw_g (lw_at lw_m8 44 rfl) rfl
theorem q1827 : (Jvm.Cond.laysFinal "PailRowModel" "PailRowModel" "hookTold" "[I") ∈ lw_all := lw_g (lw_at lw_m8 45 rfl) rfl
theorem q1828 : (Jvm.Cond.soleField "PailRowModel" "hookTold") ∈ lw_all := lw_g (lw_at lw_m8 46 rfl) rfl
theorem q1829 : (Jvm.Cond.lays "PailRowModel" "PailRowModel" "houses" "I") ∈ lw_all := lw_g (lw_at lw_m8 47 rfl) rfl
theorem q1830 : (Jvm.Cond.soleField "PailRowModel" "houses") ∈ lw_all := lw_g (lw_at lw_m8 48 rfl) rfl
theorem q1831 : (Jvm.Cond.lays "PailRowModel" "PailRowModel" "hookLeast" "I") ∈ lw_all := lw_g (lw_at lw_m8 49 rfl) rfl
theorem q1832 : (Jvm.Cond.soleField "PailRowModel" "hookLeast") ∈ lw_all := lw_g (lw_at lw_m8 50 rfl) rfl
theorem q1833 : (Jvm.Cond.lays "PailRowModel" "PailRowModel" "hookMany" "I") ∈ lw_all := lw_g (lw_at lw_m8 51 rfl) rfl
theorem q1834 : (Jvm.Cond.soleField "PailRowModel" "hookMany") ∈ lw_all := lw_g (lw_at lw_m8 52 rfl) rfl
theorem q1835 : (Jvm.Cond.laysFinal "PailRowModel" "PailRowModel" "fuel" "[I") ∈ lw_all := lw_g (lw_at lw_m8 53 rfl) rfl
theorem q1836 : (Jvm.Cond.soleField "PailRowModel" "fuel") ∈ lw_all := lw_g (lw_at lw_m8 54 rfl) rfl
theorem q1837 : (Jvm.Cond.laysFinal "PailRowModel" "PailRowModel" "burn" "[I") ∈ lw_all := lw_g (lw_at lw_m8 55 rfl) rfl
theorem q1838 : (Jvm.Cond.soleField "PailRowModel" "burn") ∈ lw_all := lw_g (lw_at lw_m8 56 rfl) rfl
theorem q1839 : (Jvm.Cond.laysFinal "PailRowModel" "PailRowModel" "wet" "[I") ∈ lw_all := lw_g (lw_at lw_m8 57 rfl) rfl
theorem q1840 : (Jvm.Cond.soleField "PailRowModel" "wet") ∈ lw_all := lw_g (lw_at lw_m8 58 rfl) rfl
theorem q1841 : (Jvm.Cond.laysFinal "PailRowModel" "PailRowModel" "heat" "[I") ∈ lw_all := lw_g (lw_at lw_m8 59 rfl) rfl
theorem q1842 : (Jvm.Cond.soleField "PailRowModel" "heat") ∈ lw_all := lw_g (lw_at lw_m8 60 rfl) rfl
theorem q1843 : (Jvm.Cond.laysFinal "PailRowModel" "PailRowModel" "fuelWas" "[I") ∈ lw_all := lw_g (lw_at lw_m8 61 rfl) rfl
theorem q1844 : (Jvm.Cond.soleField "PailRowModel" "fuelWas") ∈ lw_all := lw_g (lw_at lw_m8 62 rfl) rfl
theorem q1845 : (Jvm.Cond.laysFinal "PailRowModel" "PailRowModel" "burnWas" "[I") ∈ lw_all := lw_g (lw_at lw_m8 63 rfl) rfl
theorem q1846 : (Jvm.Cond.soleField "PailRowModel" "burnWas") ∈ lw_all := lw_g (lw_at lw_m8 64 rfl) rfl
theorem q1847 : (Jvm.Cond.lays "PailRowModel" "PailRowModel" "lost" "I") ∈ lw_all := lw_g (lw_at lw_m8 65 rfl) rfl
theorem q1848 : (Jvm.Cond.soleField "PailRowModel" "lost") ∈ lw_all := lw_g (lw_at lw_m8 66 rfl) rfl
theorem q1849 : (Jvm.Cond.lays "PailRowModel" "PailRowModel" "outAt" "I") ∈ lw_all := lw_g (lw_at lw_m8 67 rfl) rfl
theorem q1850 : (Jvm.Cond.soleField "PailRowModel" "outAt") ∈ lw_all := lw_g (lw_at lw_m8 68 rfl) rfl
theorem q1851 : (Jvm.Cond.laysFinal "PailRowModel" "PailRowModel" "fireCell" "[I") ∈ lw_all := lw_g (lw_at lw_m8 69 rfl) rfl
theorem q1852 : (Jvm.Cond.soleField "PailRowModel" "fireCell") ∈ lw_all := lw_g (lw_at lw_m8 70 rfl) rfl
theorem q1853 : (Jvm.Cond.lays "PailRowModel" "PailRowModel" "fireColumns" "I") ∈ lw_all := lw_g (lw_at lw_m8 71 rfl) rfl
theorem q1854 : (Jvm.Cond.soleField "PailRowModel" "fireColumns") ∈ lw_all := lw_g (lw_at lw_m8 72 rfl) rfl
theorem q1855 : (Jvm.Cond.lays "PailRowModel" "PailRowModel" "fireRows" "I") ∈ lw_all := lw_g (lw_at lw_m8 73 rfl) rfl
theorem q1856 : (Jvm.Cond.soleField "PailRowModel" "fireRows") ∈ lw_all := lw_g (lw_at lw_m8 74 rfl) rfl
theorem q1857 : (Jvm.Cond.lays "PailRowModel" "PailRowModel" "fireOut" "I") ∈ lw_all := lw_g (lw_at lw_m8 75 rfl) rfl
theorem q1858 : (Jvm.Cond.soleField "PailRowModel" "fireOut") ∈ lw_all := lw_g (lw_at lw_m8 76 rfl) rfl
theorem q1859 : (Jvm.Cond.lays "PailRowModel" "PailRowModel" "wasFire" "Z") ∈ lw_all := lw_g (lw_at lw_m8 77 rfl) rfl
theorem q1860 : (Jvm.Cond.soleField "PailRowModel" "wasFire") ∈ lw_all := lw_g (lw_at lw_m8 78 rfl) rfl
theorem q1861 : (Jvm.Cond.laysFinal "PailRowModel" "PailRowModel" "stood" "[I") ∈ lw_all := lw_g (lw_at lw_m8 79 rfl) rfl
theorem q1862 : (Jvm.Cond.soleField "PailRowModel" "stood") ∈ lw_all := lw_g (lw_at lw_m8 80 rfl) rfl
theorem q1863 : (Jvm.Cond.laysFinal "PailRowModel" "PailRowModel" "aimRow" "[I") ∈ lw_all := lw_g (lw_at lw_m8 81 rfl) rfl
theorem q1864 : (Jvm.Cond.soleField "PailRowModel" "aimRow") ∈ lw_all := lw_g (lw_at lw_m8 82 rfl) rfl
theorem q1865 : (Jvm.Cond.laysFinal "PailRowModel" "PailRowModel" "aimBest" "[I") ∈ lw_all := lw_g (lw_at lw_m8 83 rfl) rfl
theorem q1866 : (Jvm.Cond.soleField "PailRowModel" "aimBest") ∈ lw_all := lw_g (lw_at lw_m8 84 rfl) rfl
theorem q1867 : (Jvm.Cond.laysFinal "PailRowModel" "PailRowModel" "aimTold" "[I") ∈ lw_all := lw_g (lw_at lw_m8 85 rfl) rfl
theorem q1868 : (Jvm.Cond.soleField "PailRowModel" "aimTold") ∈ lw_all := lw_g (lw_at lw_m8 86 rfl) rfl
theorem q1869 : (Jvm.Cond.lays "PailRowModel" "PailRowModel" "aimLeast" "I") ∈ lw_all := lw_g (lw_at lw_m8 87 rfl) rfl
theorem q1870 : (Jvm.Cond.soleField "PailRowModel" "aimLeast") ∈ lw_all := lw_g (lw_at lw_m8 88 rfl) rfl
theorem q1871 : (Jvm.Cond.lays "PailRowModel" "PailRowModel" "aimMany" "I") ∈ lw_all := lw_g (lw_at lw_m8 89 rfl) rfl
theorem q1872 : (Jvm.Cond.soleField "PailRowModel" "aimMany") ∈ lw_all := lw_g (lw_at lw_m8 90 rfl) rfl
theorem q1873 : (Jvm.Cond.lays "PailRowModel" "PailRowModel" "aimToldMany" "I") ∈ lw_all := lw_g (lw_at lw_m8 91 rfl) rfl
theorem q1874 : (Jvm.Cond.soleField "PailRowModel" "aimToldMany") ∈ lw_all := lw_g (lw_at lw_m8 92 rfl) rfl
theorem q1875 : (Jvm.Cond.lays "PailRowModel" "PailRowModel" "planMany" "I") ∈ lw_all := lw_g (lw_at lw_m8 93 rfl) rfl
theorem q1876 : (Jvm.Cond.soleField "PailRowModel" "planMany") ∈ lw_all := lw_g (lw_at lw_m8 94 rfl) rfl
theorem q1877 : (Jvm.Cond.laysFinal "PailRowModel" "PailRowModel" "night" "[I") ∈ lw_all := lw_g (lw_at lw_m8 95 rfl) rfl
theorem q1878 : (Jvm.Cond.soleField "PailRowModel" "night") ∈ lw_all := lw_g (lw_at lw_m8 96 rfl) rfl
theorem q1879 : (Jvm.Cond.laysFinal "PailRowModel" "PailRowModel" "node" "[I") ∈ lw_all := lw_g (lw_at lw_m8 97 rfl) rfl
theorem q1880 : (Jvm.Cond.soleField "PailRowModel" "node") ∈ lw_all := lw_g (lw_at lw_m8 98 rfl) rfl
theorem q1881 : (Jvm.Cond.lays "PailRowModel" "PailRowModel" "nodes" "I") ∈ lw_all := lw_g (lw_at lw_m8 99 rfl) rfl
theorem q1882 : (Jvm.Cond.soleField "PailRowModel" "nodes") ∈ lw_all := lw_g (lw_at lw_m8 100 rfl) rfl
theorem q1883 : (Jvm.Cond.lays "PailRowModel" "PailRowModel" "ones" "I") ∈ lw_all := lw_g (lw_at lw_m8 101 rfl) rfl
theorem q1884 : (Jvm.Cond.soleField "PailRowModel" "ones") ∈ lw_all := lw_g (lw_at lw_m8 102 rfl) rfl
theorem q1885 : (Jvm.Cond.lays "PailRowModel" "PailRowModel" "within" "I") ∈ lw_all := lw_g (lw_at lw_m8 103 rfl) rfl
theorem q1886 : (Jvm.Cond.soleField "PailRowModel" "within") ∈ lw_all := lw_g (lw_at lw_m8 104 rfl) rfl
theorem q1887 : (Jvm.Cond.lays "PailRowModel" "PailRowModel" "top" "I") ∈ lw_all := lw_g (lw_at lw_m8 105 rfl) rfl
theorem q1888 : (Jvm.Cond.soleField "PailRowModel" "top") ∈ lw_all := lw_g (lw_at lw_m8 106 rfl) rfl
theorem q1889 : (Jvm.Cond.superclass "PailRowModel" "java/lang/Object") ∈ lw_all := lw_g (lw_at lw_m8 107 rfl) rfl
theorem q1892 : (Jvm.Cond.instanceMethod ({ cls := "PailRowModel", name := "thrown", desc := "()I" } : Jvm.MethodName)) ∈ lw_all := lw_g (lw_at lw_m8 110 rfl) rfl
theorem q1893 : (Jvm.Cond.selects "PailRowModel" ({ cls := "PailRowModel", name := "thrown", desc := "()I" } : Jvm.MethodName) ({ cls := "PailRowModel", name := "thrown", desc := "()I" } : Jvm.MethodName)) ∈ lw_all := lw_g (lw_at lw_m8 111 rfl) rfl
theorem q1894 : (Jvm.Cond.code ({ cls := "PailRowModel", name := "thrown", desc := "()I" } : Jvm.MethodName) prog_23_method_2_code (1 : Nat) (Option.some Jvm.ClassFile.FieldType.int)) ∈ lw_all := lw_g (lw_at lw_m8 112 rfl) rfl
theorem q1896 : (Jvm.Cond.instanceMethod ({ cls := "PailRowModel", name := "feed", desc := "(IIIII)I" } : Jvm.MethodName)) ∈ lw_all := lw_g (lw_at lw_m8 114 rfl) rfl
theorem q1897 : (Jvm.Cond.selects "PailRowModel" ({ cls := "PailRowModel", name := "feed", desc := "(IIIII)I" } : Jvm.MethodName) ({ cls := "PailRowModel", name := "feed", desc := "(IIIII)I" } : Jvm.MethodName)) ∈ lw_all := lw_g (lw_at lw_m8 115 rfl) rfl
theorem q1898 : (Jvm.Cond.code ({ cls := "PailRowModel", name := "feed", desc := "(IIIII)I" } : Jvm.MethodName) prog_23_method_5_code (6 : Nat) (Option.some Jvm.ClassFile.FieldType.int)) ∈ lw_all := lw_g (lw_at lw_m8 116 rfl) rfl
theorem q1899 : (Jvm.Cond.methodLink "PailRowModel" (154 : Nat) ({ cls := "PailRowModel", name := "come", desc := "(I)V" } : Jvm.MethodName)) ∈ lw_all := lw_g (lw_at lw_m8 117 rfl) rfl
theorem q1900 : (Jvm.Cond.privateMethod ({ cls := "PailRowModel", name := "come", desc := "(I)V" } : Jvm.MethodName)) ∈ lw_tbl := lw_at lw_m8 118 rfl
theorem q1901 : (Jvm.Cond.instanceMethod ({ cls := "PailRowModel", name := "come", desc := "(I)V" } : Jvm.MethodName)) ∈ lw_all := lw_g (lw_at lw_m8 119 rfl) rfl
theorem q1902 : (Jvm.Cond.code ({ cls := "PailRowModel", name := "come", desc := "(I)V" } : Jvm.MethodName) prog_23_method_4_code (3 : Nat) (Option.none : Option Jvm.ClassFile.FieldType)) ∈ lw_all := lw_g (lw_at lw_m8 120 rfl) rfl
theorem q1904 : (Jvm.Cond.instanceMethod ({ cls := "PailRowModel", name := "end", desc := "(I)Z" } : Jvm.MethodName)) ∈ lw_all := lw_g (lw_at lw_m8 122 rfl) rfl
theorem q1905 : (Jvm.Cond.selects "PailRowModel" ({ cls := "PailRowModel", name := "end", desc := "(I)Z" } : Jvm.MethodName) ({ cls := "PailRowModel", name := "end", desc := "(I)Z" } : Jvm.MethodName)) ∈ lw_all := lw_g (lw_at lw_m8 123 rfl) rfl
theorem q1906 : (Jvm.Cond.code ({ cls := "PailRowModel", name := "end", desc := "(I)Z" } : Jvm.MethodName) prog_23_method_6_code (2 : Nat) (Option.some Jvm.ClassFile.FieldType.boolean)) ∈ lw_all := lw_g (lw_at lw_m8 124 rfl) rfl
theorem q1908 : (Jvm.Cond.instanceMethod ({ cls := "PailRowModel", name := "yard", desc := "()I" } : Jvm.MethodName)) ∈ lw_all := lw_g (lw_at lw_m8 126 rfl) rfl
theorem q1909 : (Jvm.Cond.selects "PailRowModel" ({ cls := "PailRowModel", name := "yard", desc := "()I" } : Jvm.MethodName) ({ cls := "PailRowModel", name := "yard", desc := "()I" } : Jvm.MethodName)) ∈ lw_all := lw_g (lw_at lw_m8 127 rfl) rfl
theorem q1910 : (Jvm.Cond.code ({ cls := "PailRowModel", name := "yard", desc := "()I" } : Jvm.MethodName) prog_23_method_37_code (3 : Nat) (Option.some Jvm.ClassFile.FieldType.int)) ∈ lw_all := lw_g (lw_at lw_m8 128 rfl) rfl
theorem q1911 : (Jvm.Cond.methodLink "PailRowModel" (282 : Nat) ({ cls := "PailRowModel", name := "begin", desc := "(I)V" } : Jvm.MethodName)) ∈ lw_all := lw_g (lw_at lw_m8 129 rfl) rfl
theorem q1912 : (Jvm.Cond.privateMethod ({ cls := "PailRowModel", name := "begin", desc := "(I)V" } : Jvm.MethodName)) ∈ lw_tbl := lw_at lw_m8 130 rfl
theorem q1913 : (Jvm.Cond.instanceMethod ({ cls := "PailRowModel", name := "begin", desc := "(I)V" } : Jvm.MethodName)) ∈ lw_all := lw_g (lw_at lw_m8 131 rfl) rfl
theorem q1914 : (Jvm.Cond.code ({ cls := "PailRowModel", name := "begin", desc := "(I)V" } : Jvm.MethodName) prog_23_method_24_code (2 : Nat) (Option.none : Option Jvm.ClassFile.FieldType)) ∈ lw_all := lw_g (lw_at lw_m8 132 rfl) rfl
theorem q1915 : (Jvm.Cond.methodLink "PailRowModel" (232 : Nat) ({ cls := "PailRowModel", name := "lay", desc := "()V" } : Jvm.MethodName)) ∈ lw_all := lw_g (lw_at lw_m8 133 rfl) rfl
theorem q1916 : (Jvm.Cond.privateMethod ({ cls := "PailRowModel", name := "lay", desc := "()V" } : Jvm.MethodName)) ∈ lw_tbl := lw_at lw_m8 134 rfl
theorem q1917 : (Jvm.Cond.instanceMethod ({ cls := "PailRowModel", name := "lay", desc := "()V" } : Jvm.MethodName)) ∈ lw_all := lw_g (lw_at lw_m8 135 rfl) rfl
theorem q1918 : (Jvm.Cond.code ({ cls := "PailRowModel", name := "lay", desc := "()V" } : Jvm.MethodName) prog_23_method_25_code (1 : Nat) (Option.none : Option Jvm.ClassFile.FieldType)) ∈ lw_all := lw_g (lw_at lw_m8 136 rfl) rfl
theorem q1919 : (Jvm.Cond.methodLink "PailRowModel" (243 : Nat) ({ cls := "PailRowModel", name := "standard", desc := "([I)V" } : Jvm.MethodName)) ∈ lw_all := lw_g (lw_at lw_m8 137 rfl) rfl
theorem q1920 : (Jvm.Cond.static ({ cls := "PailRowModel", name := "standard", desc := "([I)V" } : Jvm.MethodName)) ∈ lw_all := lw_g (lw_at lw_m8 138 rfl) rfl
theorem q1921 : (Jvm.Cond.code ({ cls := "PailRowModel", name := "standard", desc := "([I)V" } : Jvm.MethodName) prog_23_method_26_code (2 : Nat) (Option.none : Option Jvm.ClassFile.FieldType)) ∈ lw_all := lw_g (lw_at lw_m8 139 rfl) rfl
theorem q1922 : (Jvm.Cond.methodLink "PailRowModel" (235 : Nat) ({ cls := "PailRowModel", name := "take", desc := "()I" } : Jvm.MethodName)) ∈ lw_all := lw_g (lw_at lw_m8 140 rfl) rfl
theorem q1923 : (Jvm.Cond.privateMethod ({ cls := "PailRowModel", name := "take", desc := "()I" } : Jvm.MethodName)) ∈ lw_tbl := lw_at lw_m8 141 rfl
theorem q1924 : (Jvm.Cond.instanceMethod ({ cls := "PailRowModel", name := "take", desc := "()I" } : Jvm.MethodName)) ∈ lw_all := lw_g (lw_at lw_m8 142 rfl) rfl
theorem q1925 : (Jvm.Cond.code ({ cls := "PailRowModel", name := "take", desc := "()I" } : Jvm.MethodName) prog_23_method_7_code (2 : Nat) (Option.some Jvm.ClassFile.FieldType.int)) ∈ lw_all := lw_g (lw_at lw_m8 143 rfl) rfl
theorem q1926 : (Jvm.Cond.methodLink "PailRowModel" (226 : Nat) ({ cls := "PailRowModel", name := "go", desc := "()V" } : Jvm.MethodName)) ∈ lw_all := lw_g (lw_at lw_m8 144 rfl) rfl
theorem q1927 : (Jvm.Cond.privateMethod ({ cls := "PailRowModel", name := "go", desc := "()V" } : Jvm.MethodName)) ∈ lw_tbl := lw_at lw_m8 145 rfl
theorem q1928 : (Jvm.Cond.instanceMethod ({ cls := "PailRowModel", name := "go", desc := "()V" } : Jvm.MethodName)) ∈ lw_all := lw_g (lw_at lw_m8 146 rfl) rfl
theorem q1929 : (Jvm.Cond.code ({ cls := "PailRowModel", name := "go", desc := "()V" } : Jvm.MethodName) prog_23_method_14_code (5 : Nat) (Option.none : Option Jvm.ClassFile.FieldType)) ∈ lw_all := lw_g (lw_at lw_m8 147 rfl) rfl
theorem q1930 : (Jvm.Cond.methodLink "PailRowModel" (173 : Nat) ({ cls := "PailRowModel", name := "isLetter", desc := "(I)Z" } : Jvm.MethodName)) ∈ lw_all := lw_g (lw_at lw_m8 148 rfl) rfl
theorem q1931 : (Jvm.Cond.static ({ cls := "PailRowModel", name := "isLetter", desc := "(I)Z" } : Jvm.MethodName)) ∈ lw_all := lw_g (lw_at lw_m8 149 rfl) rfl
theorem q1932 : (Jvm.Cond.code ({ cls := "PailRowModel", name := "isLetter", desc := "(I)Z" } : Jvm.MethodName) prog_23_method_13_code (1 : Nat) (Option.some Jvm.ClassFile.FieldType.boolean)) ∈ lw_all := lw_g (lw_at lw_m8 150 rfl) rfl
theorem q1933 : (Jvm.Cond.methodLink "PailRowModel" (177 : Nat) ({ cls := "PailRowModel", name := "isDigit", desc := "(I)Z" } : Jvm.MethodName)) ∈ lw_all := lw_g (lw_at lw_m8 151 rfl) rfl
theorem q1934 : (Jvm.Cond.static ({ cls := "PailRowModel", name := "isDigit", desc := "(I)Z" } : Jvm.MethodName)) ∈ lw_all := lw_g (lw_at lw_m8 152 rfl) rfl
theorem q1935 : (Jvm.Cond.code ({ cls := "PailRowModel", name := "isDigit", desc := "(I)Z" } : Jvm.MethodName) prog_23_method_12_code (1 : Nat) (Option.some Jvm.ClassFile.FieldType.boolean)) ∈ lw_all := lw_g (lw_at lw_m8 153 rfl) rfl
theorem q1936 : (Jvm.Cond.methodLink "PailRowModel" (190 : Nat) ({ cls := "PailRowModel", name := "byteAt", desc := "(I)I" } : Jvm.MethodName)) ∈ lw_all := lw_g (lw_at lw_m8 154 rfl) rfl
theorem q1937 : (Jvm.Cond.privateMethod ({ cls := "PailRowModel", name := "byteAt", desc := "(I)I" } : Jvm.MethodName)) ∈ lw_tbl := lw_at lw_m8 155 rfl
theorem q1938 : (Jvm.Cond.instanceMethod ({ cls := "PailRowModel", name := "byteAt", desc := "(I)I" } : Jvm.MethodName)) ∈ lw_all := lw_g (lw_at lw_m8 156 rfl) rfl
theorem q1939 : (Jvm.Cond.code ({ cls := "PailRowModel", name := "byteAt", desc := "(I)I" } : Jvm.MethodName) prog_23_method_11_code (2 : Nat) (Option.some Jvm.ClassFile.FieldType.int)) ∈ lw_all := lw_g (lw_at lw_m8 157 rfl) rfl
theorem q1940 : (Jvm.Cond.constantLong "PailRowModel" (194 : Nat) (27 : Int64)) ∈ lw_all := lw_g (lw_at lw_m8 158 rfl) rfl
theorem q1941 : (Jvm.Cond.constantLong "PailRowModel" (196 : Nat) (96 : Int64)) ∈ lw_all := lw_g (lw_at lw_m8 159 rfl) rfl
theorem q1942 : (Jvm.Cond.methodLink "PailRowModel" (285 : Nat) ({ cls := "PailRowModel", name := "readLine", desc := "()Z" } : Jvm.MethodName)) ∈ lw_all := lw_g (lw_at lw_m8 160 rfl) rfl
theorem q1943 : (Jvm.Cond.privateMethod ({ cls := "PailRowModel", name := "readLine", desc := "()Z" } : Jvm.MethodName)) ∈ lw_tbl := lw_at lw_m8 161 rfl
theorem q1944 : (Jvm.Cond.instanceMethod ({ cls := "PailRowModel", name := "readLine", desc := "()Z" } : Jvm.MethodName)) ∈ lw_all := lw_g (lw_at lw_m8 162 rfl) rfl
theorem q1945 : (Jvm.Cond.code ({ cls := "PailRowModel", name := "readLine", desc := "()Z" } : Jvm.MethodName) prog_23_method_36_code (3 : Nat) (Option.some Jvm.ClassFile.FieldType.boolean)) ∈ lw_all := lw_g (lw_at lw_m8 163 rfl) rfl
theorem q1946 : (Jvm.Cond.methodLink "PailRowModel" (264 : Nat) ({ cls := "PailRowModel", name := "isWord", desc := "(I)Z" } : Jvm.MethodName)) ∈ lw_all := lw_g (lw_at lw_m8 164 rfl) rfl
theorem q1947 : (Jvm.Cond.privateMethod ({ cls := "PailRowModel", name := "isWord", desc := "(I)Z" } : Jvm.MethodName)) ∈ lw_tbl := lw_at lw_m8 165 rfl
theorem q1948 : (Jvm.Cond.instanceMethod ({ cls := "PailRowModel", name := "isWord", desc := "(I)Z" } : Jvm.MethodName)) ∈ lw_all := lw_g (lw_at lw_m8 166 rfl) rfl
theorem q1949 : (Jvm.Cond.code ({ cls := "PailRowModel", name := "isWord", desc := "(I)Z" } : Jvm.MethodName) prog_23_method_18_code (2 : Nat) (Option.some Jvm.ClassFile.FieldType.boolean)) ∈ lw_all := lw_g (lw_at lw_m8 167 rfl) rfl
theorem q1950 : (Jvm.Cond.methodLink "PailRowModel" (206 : Nat) ({ cls := "PailRowModel", name := "wordOf", desc := "(I)J" } : Jvm.MethodName)) ∈ lw_all := lw_g (lw_at lw_m8 168 rfl) rfl
theorem q1951 : (Jvm.Cond.static ({ cls := "PailRowModel", name := "wordOf", desc := "(I)J" } : Jvm.MethodName)) ∈ lw_all := lw_g (lw_at lw_m8 169 rfl) rfl
theorem q1952 : (Jvm.Cond.code ({ cls := "PailRowModel", name := "wordOf", desc := "(I)J" } : Jvm.MethodName) prog_23_method_17_code (1 : Nat) (Option.some Jvm.ClassFile.FieldType.long)) ∈ lw_all := lw_g (lw_at lw_m8 170 rfl) rfl
theorem q1953 : (Jvm.Cond.methodLink "PailRowModel" (198 : Nat) ({ cls := "PailRowModel", name := "spelt", desc := "(IIIII)J" } : Jvm.MethodName)) ∈ lw_all := lw_g (lw_at lw_m8 171 rfl) rfl
theorem q1954 : (Jvm.Cond.static ({ cls := "PailRowModel", name := "spelt", desc := "(IIIII)J" } : Jvm.MethodName)) ∈ lw_all := lw_g (lw_at lw_m8 172 rfl) rfl
theorem q1955 : (Jvm.Cond.code ({ cls := "PailRowModel", name := "spelt", desc := "(IIIII)J" } : Jvm.MethodName) prog_23_method_15_code (7 : Nat) (Option.some Jvm.ClassFile.FieldType.long)) ∈ lw_all := lw_g (lw_at lw_m8 173 rfl) rfl
theorem q1956 : (Jvm.Cond.methodLink "PailRowModel" (202 : Nat) ({ cls := "PailRowModel", name := "on", desc := "(JI)J" } : Jvm.MethodName)) ∈ lw_all := lw_g (lw_at lw_m8 174 rfl) rfl
theorem q1957 : (Jvm.Cond.static ({ cls := "PailRowModel", name := "on", desc := "(JI)J" } : Jvm.MethodName)) ∈ lw_all := lw_g (lw_at lw_m8 175 rfl) rfl
theorem q1958 : (Jvm.Cond.code ({ cls := "PailRowModel", name := "on", desc := "(JI)J" } : Jvm.MethodName) prog_23_method_16_code (3 : Nat) (Option.some Jvm.ClassFile.FieldType.long)) ∈ lw_all := lw_g (lw_at lw_m8 176 rfl) rfl
theorem q1959 : (Jvm.Cond.methodLink "PailRowModel" (216 : Nat) ({ cls := "PailRowModel", name := "bad", desc := "(I)Z" } : Jvm.MethodName)) ∈ lw_all := lw_g (lw_at lw_m8 177 rfl) rfl
theorem q1960 : (Jvm.Cond.privateMethod ({ cls := "PailRowModel", name := "bad", desc := "(I)Z" } : Jvm.MethodName)) ∈ lw_tbl := lw_at lw_m8 178 rfl
theorem q1961 : (Jvm.Cond.instanceMethod ({ cls := "PailRowModel", name := "bad", desc := "(I)Z" } : Jvm.MethodName)) ∈ lw_all := lw_g (lw_at lw_m8 179 rfl) rfl
theorem q1962 : (Jvm.Cond.code ({ cls := "PailRowModel", name := "bad", desc := "(I)Z" } : Jvm.MethodName) prog_23_method_21_code (2 : Nat) (Option.some Jvm.ClassFile.FieldType.boolean)) ∈ lw_all := lw_g (lw_at lw_m8 180 rfl) rfl
theorem q1963 : (Jvm.Cond.methodLink "PailRowModel" (267 : Nat) ({ cls := "PailRowModel", name := "readMan", desc := "()Z" } : Jvm.MethodName)) ∈ lw_all := lw_g (lw_at lw_m8 181 rfl) rfl
theorem q1964 : (Jvm.Cond.privateMethod ({ cls := "PailRowModel", name := "readMan", desc := "()Z" } : Jvm.MethodName)) ∈ lw_tbl := lw_at lw_m8 182 rfl
theorem q1965 : (Jvm.Cond.instanceMethod ({ cls := "PailRowModel", name := "readMan", desc := "()Z" } : Jvm.MethodName)) ∈ lw_all := lw_g (lw_at lw_m8 183 rfl) rfl
theorem q1966 : (Jvm.Cond.code ({ cls := "PailRowModel", name := "readMan", desc := "()Z" } : Jvm.MethodName) prog_23_method_31_code (3 : Nat) (Option.some Jvm.ClassFile.FieldType.boolean)) ∈ lw_all := lw_g (lw_at lw_m8 184 rfl) rfl
theorem q1967 : (Jvm.Cond.methodLink "PailRowModel" (247 : Nat) ({ cls := "PailRowModel", name := "isName", desc := "()Z" } : Jvm.MethodName)) ∈ lw_all := lw_g (lw_at lw_m8 185 rfl) rfl
theorem q1968 : (Jvm.Cond.privateMethod ({ cls := "PailRowModel", name := "isName", desc := "()Z" } : Jvm.MethodName)) ∈ lw_tbl := lw_at lw_m8 186 rfl
theorem q1969 : (Jvm.Cond.instanceMethod ({ cls := "PailRowModel", name := "isName", desc := "()Z" } : Jvm.MethodName)) ∈ lw_all := lw_g (lw_at lw_m8 187 rfl) rfl
theorem q1970 : (Jvm.Cond.code ({ cls := "PailRowModel", name := "isName", desc := "()Z" } : Jvm.MethodName) prog_23_method_20_code (2 : Nat) (Option.some Jvm.ClassFile.FieldType.boolean)) ∈ lw_all := lw_g (lw_at lw_m8 188 rfl) rfl
theorem q1971 : (Jvm.Cond.methodLink "PailRowModel" (251 : Nat) ({ cls := "PailRowModel", name := "readNumber", desc := "(II)Z" } : Jvm.MethodName)) ∈ lw_all := lw_g (lw_at lw_m8 189 rfl) rfl
theorem q1972 : (Jvm.Cond.privateMethod ({ cls := "PailRowModel", name := "readNumber", desc := "(II)Z" } : Jvm.MethodName)) ∈ lw_tbl := lw_at lw_m8 190 rfl
theorem q1973 : (Jvm.Cond.instanceMethod ({ cls := "PailRowModel", name := "readNumber", desc := "(II)Z" } : Jvm.MethodName)) ∈ lw_all := lw_g (lw_at lw_m8 191 rfl) rfl
theorem q1974 : (Jvm.Cond.code ({ cls := "PailRowModel", name := "readNumber", desc := "(II)Z" } : Jvm.MethodName) prog_23_method_22_code (3 : Nat) (Option.some Jvm.ClassFile.FieldType.boolean)) ∈ lw_all := lw_g (lw_at lw_m8 192 rfl) rfl
theorem q1975 : (Jvm.Cond.methodLink "PailRowModel" (219 : Nat) ({ cls := "PailRowModel", name := "isIn", desc := "(III)Z" } : Jvm.MethodName)) ∈ lw_all := lw_g (lw_at lw_m8 193 rfl) rfl
theorem q1976 : (Jvm.Cond.static ({ cls := "PailRowModel", name := "isIn", desc := "(III)Z" } : Jvm.MethodName)) ∈ lw_all := lw_g (lw_at lw_m8 194 rfl) rfl
theorem q1977 : (Jvm.Cond.code ({ cls := "PailRowModel", name := "isIn", desc := "(III)Z" } : Jvm.MethodName) prog_23_method_8_code (3 : Nat) (Option.some Jvm.ClassFile.FieldType.boolean)) ∈ lw_all := lw_g (lw_at lw_m8 195 rfl) rfl
theorem q1978 : (Jvm.Cond.methodLink "PailRowModel" (270 : Nat) ({ cls := "PailRowModel", name := "readCells", desc := "()Z" } : Jvm.MethodName)) ∈ lw_all := lw_g (lw_at lw_m8 196 rfl) rfl
theorem q1979 : (Jvm.Cond.privateMethod ({ cls := "PailRowModel", name := "readCells", desc := "()Z" } : Jvm.MethodName)) ∈ lw_tbl := lw_at lw_m8 197 rfl
theorem q1980 : (Jvm.Cond.instanceMethod ({ cls := "PailRowModel", name := "readCells", desc := "()Z" } : Jvm.MethodName)) ∈ lw_all := lw_g (lw_at lw_m8 198 rfl) rfl
theorem q1981 : (Jvm.Cond.code ({ cls := "PailRowModel", name := "readCells", desc := "()Z" } : Jvm.MethodName) prog_23_method_32_code (4 : Nat) (Option.some Jvm.ClassFile.FieldType.boolean)) ∈ lw_all := lw_g (lw_at lw_m8 199 rfl) rfl
theorem q1982 : (Jvm.Cond.methodLink "PailRowModel" (273 : Nat) ({ cls := "PailRowModel", name := "readBurn", desc := "()Z" } : Jvm.MethodName)) ∈ lw_all := lw_g (lw_at lw_m8 200 rfl) rfl
theorem q1983 : (Jvm.Cond.privateMethod ({ cls := "PailRowModel", name := "readBurn", desc := "()Z" } : Jvm.MethodName)) ∈ lw_tbl := lw_at lw_m8 201 rfl
theorem q1984 : (Jvm.Cond.instanceMethod ({ cls := "PailRowModel", name := "readBurn", desc := "()Z" } : Jvm.MethodName)) ∈ lw_all := lw_g (lw_at lw_m8 202 rfl) rfl
theorem q1985 : (Jvm.Cond.code ({ cls := "PailRowModel", name := "readBurn", desc := "()Z" } : Jvm.MethodName) prog_23_method_33_code (3 : Nat) (Option.some Jvm.ClassFile.FieldType.boolean)) ∈ lw_all := lw_g (lw_at lw_m8 203 rfl) rfl
theorem q1986 : (Jvm.Cond.methodLink "PailRowModel" (276 : Nat) ({ cls := "PailRowModel", name := "readOnce", desc := "(I)Z" } : Jvm.MethodName)) ∈ lw_all := lw_g (lw_at lw_m8 204 rfl) rfl
theorem q1987 : (Jvm.Cond.privateMethod ({ cls := "PailRowModel", name := "readOnce", desc := "(I)Z" } : Jvm.MethodName)) ∈ lw_tbl := lw_at lw_m8 205 rfl
theorem q1988 : (Jvm.Cond.instanceMethod ({ cls := "PailRowModel", name := "readOnce", desc := "(I)Z" } : Jvm.MethodName)) ∈ lw_all := lw_g (lw_at lw_m8 206 rfl) rfl
theorem q1989 : (Jvm.Cond.code ({ cls := "PailRowModel", name := "readOnce", desc := "(I)Z" } : Jvm.MethodName) prog_23_method_34_code (3 : Nat) (Option.some Jvm.ClassFile.FieldType.boolean)) ∈ lw_all := lw_g (lw_at lw_m8 207 rfl) rfl
theorem q1990 : (Jvm.Cond.methodLink "PailRowModel" (258 : Nat) ({ cls := "PailRowModel", name := "has", desc := "(II)Z" } : Jvm.MethodName)) ∈ lw_all := lw_g (lw_at lw_m8 208 rfl) rfl
theorem q1991 : (Jvm.Cond.static ({ cls := "PailRowModel", name := "has", desc := "(II)Z" } : Jvm.MethodName)) ∈ lw_all := lw_g (lw_at lw_m8 209 rfl) rfl
theorem q1992 : (Jvm.Cond.code ({ cls := "PailRowModel", name := "has", desc := "(II)Z" } : Jvm.MethodName) prog_23_method_9_code (2 : Nat) (Option.some Jvm.ClassFile.FieldType.boolean)) ∈ lw_all := lw_g (lw_at lw_m8 210 rfl) rfl
theorem q1993 : (Jvm.Cond.methodLink "PailRowModel" (261 : Nat) ({ cls := "PailRowModel", name := "readInto", desc := "(III)Z" } : Jvm.MethodName)) ∈ lw_all := lw_g (lw_at lw_m8 211 rfl) rfl
theorem q1994 : (Jvm.Cond.privateMethod ({ cls := "PailRowModel", name := "readInto", desc := "(III)Z" } : Jvm.MethodName)) ∈ lw_tbl := lw_at lw_m8 212 rfl
theorem q1995 : (Jvm.Cond.instanceMethod ({ cls := "PailRowModel", name := "readInto", desc := "(III)Z" } : Jvm.MethodName)) ∈ lw_all := lw_g (lw_at lw_m8 213 rfl) rfl
theorem q1996 : (Jvm.Cond.code ({ cls := "PailRowModel", name := "readInto", desc := "(III)Z" } : Jvm.MethodName) prog_23_method_35_code (4 : Nat) (Option.some Jvm.ClassFile.FieldType.boolean)) ∈ lw_all := lw_g (lw_at lw_m8 214 rfl) rfl
theorem q1997 : (Jvm.Cond.methodLink "PailRowModel" (279 : Nat) ({ cls := "PailRowModel", name := "readEnd", desc := "()Z" } : Jvm.MethodName)) ∈ lw_all := lw_g (lw_at lw_m8 215 rfl) rfl
theorem q1998 : (Jvm.Cond.privateMethod ({ cls := "PailRowModel", name := "readEnd", desc := "()Z" } : Jvm.MethodName)) ∈ lw_tbl := lw_at lw_m8 216 rfl
theorem q1999 : (Jvm.Cond.instanceMethod ({ cls := "PailRowModel", name := "readEnd", desc := "()Z" } : Jvm.MethodName)) ∈ lw_all := lw_g (lw_at lw_m8 217 rfl) rfl
theorem q2000 : (Jvm.Cond.code ({ cls := "PailRowModel", name := "readEnd", desc := "()Z" } : Jvm.MethodName) prog_23_method_23_code (1 : Nat) (Option.some Jvm.ClassFile.FieldType.boolean)) ∈ lw_all := lw_g (lw_at lw_m8 218 rfl) rfl
theorem q2001 : (Jvm.Cond.methodLink "PailRowModel" (229 : Nat) ({ cls := "PailRowModel", name := "isSign", desc := "(I)Z" } : Jvm.MethodName)) ∈ lw_all := lw_g (lw_at lw_m8 219 rfl) rfl
theorem q2002 : (Jvm.Cond.privateMethod ({ cls := "PailRowModel", name := "isSign", desc := "(I)Z" } : Jvm.MethodName)) ∈ lw_tbl := lw_at lw_m8 220 rfl
theorem q2003 : (Jvm.Cond.instanceMethod ({ cls := "PailRowModel", name := "isSign", desc := "(I)Z" } : Jvm.MethodName)) ∈ lw_all := lw_g (lw_at lw_m8 221 rfl) rfl
theorem q2004 : (Jvm.Cond.code ({ cls := "PailRowModel", name := "isSign", desc := "(I)Z" } : Jvm.MethodName) prog_23_method_19_code (2 : Nat) (Option.some Jvm.ClassFile.FieldType.boolean)) ∈ lw_all := lw_g (lw_at lw_m8 222 rfl) rfl
theorem q2006 : (Jvm.Cond.instanceMethod ({ cls := "PailRowModel", name := "fault", desc := "()I" } : Jvm.MethodName)) ∈ lw_all := lw_g (lw_at lw_m8 224 rfl) rfl
theorem q2007 : (Jvm.Cond.selects "PailRowModel" ({ cls := "PailRowModel", name := "fault", desc := "()I" } : Jvm.MethodName) ({ cls := "PailRowModel", name := "fault", desc := "()I" } : Jvm.MethodName)) ∈ lw_all := lw_g (lw_at lw_m8 225 rfl) rfl
theorem q2008 : (Jvm.Cond.code ({ cls := "PailRowModel", name := "fault", desc := "()I" } : Jvm.MethodName) prog_23_method_38_code (1 : Nat) (Option.some Jvm.ClassFile.FieldType.int)) ∈ lw_all := lw_g (lw_at lw_m8 226 rfl) rfl
theorem q2010 : (Jvm.Cond.instanceMethod ({ cls := "PailRowModel", name := "man", desc := "(II)I" } : Jvm.MethodName)) ∈ lw_all := lw_g (lw_at lw_m8 228 rfl) rfl
theorem q2011 : (Jvm.Cond.selects "PailRowModel" ({ cls := "PailRowModel", name := "man", desc := "(II)I" } : Jvm.MethodName) ({ cls := "PailRowModel", name := "man", desc := "(II)I" } : Jvm.MethodName)) ∈ lw_all := lw_g (lw_at lw_m8 229 rfl) rfl
theorem q2012 : (Jvm.Cond.code ({ cls := "PailRowModel", name := "man", desc := "(II)I" } : Jvm.MethodName) prog_23_method_39_code (3 : Nat) (Option.some Jvm.ClassFile.FieldType.int)) ∈ lw_all := lw_g (lw_at lw_m8 230 rfl) rfl
theorem q2013 : (Jvm.Cond.methodLink "PailRowModel" (288 : Nat) ({ cls := "PailRowModel", name := "men", desc := "()I" } : Jvm.MethodName)) ∈ lw_all := lw_g (lw_at lw_m8 231 rfl) rfl
theorem q2014 : (Jvm.Cond.privateMethod ({ cls := "PailRowModel", name := "men", desc := "()I" } : Jvm.MethodName)) ∈ lw_tbl := lw_at lw_m8 232 rfl
theorem q2015 : (Jvm.Cond.instanceMethod ({ cls := "PailRowModel", name := "men", desc := "()I" } : Jvm.MethodName)) ∈ lw_all := lw_g (lw_at lw_m8 233 rfl) rfl
theorem q2016 : (Jvm.Cond.code ({ cls := "PailRowModel", name := "men", desc := "()I" } : Jvm.MethodName) prog_23_method_27_code (1 : Nat) (Option.some Jvm.ClassFile.FieldType.int)) ∈ lw_all := lw_g (lw_at lw_m8 234 rfl) rfl
theorem q2017 : (Jvm.Cond.methodLink "PailRowModel" (291 : Nat) ({ cls := "PailRowModel", name := "refuse", desc := "()I" } : Jvm.MethodName)) ∈ lw_all := lw_g (lw_at lw_m8 235 rfl) rfl
theorem q2018 : (Jvm.Cond.privateMethod ({ cls := "PailRowModel", name := "refuse", desc := "()I" } : Jvm.MethodName)) ∈ lw_tbl := lw_at lw_m8 236 rfl
theorem q2019 : (Jvm.Cond.instanceMethod ({ cls := "PailRowModel", name := "refuse", desc := "()I" } : Jvm.MethodName)) ∈ lw_all := lw_g (lw_at lw_m8 237 rfl) rfl
theorem q2020 : (Jvm.Cond.code ({ cls := "PailRowModel", name := "refuse", desc := "()I" } : Jvm.MethodName) prog_23_method_3_code (1 : Nat) (Option.some Jvm.ClassFile.FieldType.int)) ∈ lw_all := lw_g (lw_at lw_m8 238 rfl) rfl
theorem q2021 : (Jvm.Cond.methodLink "PailRowModel" (294 : Nat) ({ cls := "PailRowModel", name := "manOf", desc := "(II)I" } : Jvm.MethodName)) ∈ lw_all := lw_g (lw_at lw_m8 239 rfl) rfl
theorem q2022 : (Jvm.Cond.privateMethod ({ cls := "PailRowModel", name := "manOf", desc := "(II)I" } : Jvm.MethodName)) ∈ lw_tbl := lw_at lw_m9 0 rfl
theorem q2023 : (Jvm.Cond.instanceMethod ({ cls := "PailRowModel", name := "manOf", desc := "(II)I" } : Jvm.MethodName)) ∈ lw_all := lw_g (lw_at lw_m9 1 rfl) rfl
theorem q2024 : (Jvm.Cond.code ({ cls := "PailRowModel", name := "manOf", desc := "(II)I" } : Jvm.MethodName) prog_23_method_28_code (3 : Nat) (Option.some Jvm.ClassFile.FieldType.int)) ∈ lw_all := lw_g (lw_at lw_m9 2 rfl) rfl
theorem q2026 : (Jvm.Cond.instanceMethod ({ cls := "PailRowModel", name := "cell", desc := "(III)I" } : Jvm.MethodName)) ∈ lw_all := lw_g (lw_at lw_m9 4 rfl) rfl
theorem q2027 : (Jvm.Cond.selects "PailRowModel" ({ cls := "PailRowModel", name := "cell", desc := "(III)I" } : Jvm.MethodName) ({ cls := "PailRowModel", name := "cell", desc := "(III)I" } : Jvm.MethodName)) ∈ lw_all := lw_g (lw_at lw_m9 5 rfl) rfl
theorem q2028 : (Jvm.Cond.code ({ cls := "PailRowModel", name := "cell", desc := "(III)I" } : Jvm.MethodName) prog_23_method_40_code (4 : Nat) (Option.some Jvm.ClassFile.FieldType.int)) ∈ lw_all := lw_g (lw_at lw_m9 6 rfl) rfl
theorem q2029 : (Jvm.Cond.methodLink "PailRowModel" (298 : Nat) ({ cls := "PailRowModel", name := "columns", desc := "()I" } : Jvm.MethodName)) ∈ lw_all := lw_g (lw_at lw_m9 7 rfl) rfl
theorem q2030 : (Jvm.Cond.privateMethod ({ cls := "PailRowModel", name := "columns", desc := "()I" } : Jvm.MethodName)) ∈ lw_tbl := lw_at lw_m9 8 rfl
theorem q2031 : (Jvm.Cond.instanceMethod ({ cls := "PailRowModel", name := "columns", desc := "()I" } : Jvm.MethodName)) ∈ lw_all := lw_g (lw_at lw_m9 9 rfl) rfl
theorem q2032 : (Jvm.Cond.code ({ cls := "PailRowModel", name := "columns", desc := "()I" } : Jvm.MethodName) prog_23_method_29_code (1 : Nat) (Option.some Jvm.ClassFile.FieldType.int)) ∈ lw_all := lw_g (lw_at lw_m9 10 rfl) rfl
theorem q2034 : (Jvm.Cond.instanceMethod ({ cls := "PailRowModel", name := "row", desc := "(I)I" } : Jvm.MethodName)) ∈ lw_all := lw_g (lw_at lw_m9 12 rfl) rfl
theorem q2035 : (Jvm.Cond.selects "PailRowModel" ({ cls := "PailRowModel", name := "row", desc := "(I)I" } : Jvm.MethodName) ({ cls := "PailRowModel", name := "row", desc := "(I)I" } : Jvm.MethodName)) ∈ lw_all := lw_g (lw_at lw_m9 13 rfl) rfl
theorem q2036 : (Jvm.Cond.code ({ cls := "PailRowModel", name := "row", desc := "(I)I" } : Jvm.MethodName) prog_23_method_55_code (8 : Nat) (Option.some Jvm.ClassFile.FieldType.int)) ∈ lw_all := lw_g (lw_at lw_m9 14 rfl) rfl
theorem q2037 : (Jvm.Cond.methodLink "PailRowModel" (372 : Nat) ({ cls := "PailRowModel", name := "takesTeam", desc := "(IIZ)Z" } : Jvm.MethodName)) ∈ lw_all := lw_g (lw_at lw_m9 15 rfl) rfl
theorem q2038 : (Jvm.Cond.privateMethod ({ cls := "PailRowModel", name := "takesTeam", desc := "(IIZ)Z" } : Jvm.MethodName)) ∈ lw_tbl := lw_at lw_m9 16 rfl
theorem q2039 : (Jvm.Cond.instanceMethod ({ cls := "PailRowModel", name := "takesTeam", desc := "(IIZ)Z" } : Jvm.MethodName)) ∈ lw_all := lw_g (lw_at lw_m9 17 rfl) rfl
theorem q2040 : (Jvm.Cond.code ({ cls := "PailRowModel", name := "takesTeam", desc := "(IIZ)Z" } : Jvm.MethodName) prog_23_method_54_code (6 : Nat) (Option.some Jvm.ClassFile.FieldType.boolean)) ∈ lw_all := lw_g (lw_at lw_m9 18 rfl) rfl
theorem q2041 : (Jvm.Cond.methodLink "PailRowModel" (376 : Nat) ({ cls := "PailRowModel", name := "throwsIn", desc := "(IIII)I" } : Jvm.MethodName)) ∈ lw_all := lw_g (lw_at lw_m9 19 rfl) rfl
theorem q2042 : (Jvm.Cond.privateMethod ({ cls := "PailRowModel", name := "throwsIn", desc := "(IIII)I" } : Jvm.MethodName)) ∈ lw_tbl := lw_at lw_m9 20 rfl
theorem q2043 : (Jvm.Cond.instanceMethod ({ cls := "PailRowModel", name := "throwsIn", desc := "(IIII)I" } : Jvm.MethodName)) ∈ lw_all := lw_g (lw_at lw_m9 21 rfl) rfl
theorem q2044 : (Jvm.Cond.code ({ cls := "PailRowModel", name := "throwsIn", desc := "(IIII)I" } : Jvm.MethodName) prog_23_method_53_code (6 : Nat) (Option.some Jvm.ClassFile.FieldType.int)) ∈ lw_all := lw_g (lw_at lw_m9 22 rfl) rfl
theorem q2045 : (Jvm.Cond.methodLink "PailRowModel" (366 : Nat) ({ cls := "PailRowModel", name := "start", desc := "(II)V" } : Jvm.MethodName)) ∈ lw_all := lw_g (lw_at lw_m9 23 rfl) rfl
theorem q2046 : (Jvm.Cond.privateMethod ({ cls := "PailRowModel", name := "start", desc := "(II)V" } : Jvm.MethodName)) ∈ lw_tbl := lw_at lw_m9 24 rfl
theorem q2047 : (Jvm.Cond.instanceMethod ({ cls := "PailRowModel", name := "start", desc := "(II)V" } : Jvm.MethodName)) ∈ lw_all := lw_g (lw_at lw_m9 25 rfl) rfl
theorem q2048 : (Jvm.Cond.code ({ cls := "PailRowModel", name := "start", desc := "(II)V" } : Jvm.MethodName) prog_23_method_41_code (4 : Nat) (Option.none : Option Jvm.ClassFile.FieldType)) ∈ lw_all := lw_g (lw_at lw_m9 26 rfl) rfl
theorem q2049 : (Jvm.Cond.methodLink "PailRowModel" (369 : Nat) ({ cls := "PailRowModel", name := "teamTick", desc := "()V" } : Jvm.MethodName)) ∈ lw_all := lw_g (lw_at lw_m9 27 rfl) rfl
theorem q2050 : (Jvm.Cond.privateMethod ({ cls := "PailRowModel", name := "teamTick", desc := "()V" } : Jvm.MethodName)) ∈ lw_tbl := lw_at lw_m9 28 rfl
theorem q2051 : (Jvm.Cond.instanceMethod ({ cls := "PailRowModel", name := "teamTick", desc := "()V" } : Jvm.MethodName)) ∈ lw_all := lw_g (lw_at lw_m9 29 rfl) rfl
theorem q2052 : (Jvm.Cond.code ({ cls := "PailRowModel", name := "teamTick", desc := "()V" } : Jvm.MethodName) prog_23_method_52_code (1 : Nat) (Option.none : Option Jvm.ClassFile.FieldType)) ∈ lw_all := lw_g (lw_at lw_m9 30 rfl) rfl
theorem q2053 : (Jvm.Cond.methodLink "PailRowModel" (360 : Nat) ({ cls := "PailRowModel", name := "rowTick", desc := "()V" } : Jvm.MethodName)) ∈ lw_all := lw_g (lw_at lw_m9 31 rfl) rfl
theorem q2054 : (Jvm.Cond.privateMethod ({ cls := "PailRowModel", name := "rowTick", desc := "()V" } : Jvm.MethodName)) ∈ lw_tbl := lw_at lw_m9 32 rfl
theorem q2055 : (Jvm.Cond.instanceMethod ({ cls := "PailRowModel", name := "rowTick", desc := "()V" } : Jvm.MethodName)) ∈ lw_all := lw_g (lw_at lw_m9 33 rfl) rfl
theorem q2056 : (Jvm.Cond.code ({ cls := "PailRowModel", name := "rowTick", desc := "()V" } : Jvm.MethodName) prog_23_method_49_code (2 : Nat) (Option.none : Option Jvm.ClassFile.FieldType)) ∈ lw_all := lw_g (lw_at lw_m9 34 rfl) rfl
theorem q2057 : (Jvm.Cond.methodLink "PailRowModel" (351 : Nat) ({ cls := "PailRowModel", name := "finishes", desc := "(I)V" } : Jvm.MethodName)) ∈ lw_all := lw_g (lw_at lw_m9 35 rfl) rfl
theorem q2058 : (Jvm.Cond.privateMethod ({ cls := "PailRowModel", name := "finishes", desc := "(I)V" } : Jvm.MethodName)) ∈ lw_tbl := lw_at lw_m9 36 rfl
theorem q2059 : (Jvm.Cond.instanceMethod ({ cls := "PailRowModel", name := "finishes", desc := "(I)V" } : Jvm.MethodName)) ∈ lw_all := lw_g (lw_at lw_m9 37 rfl) rfl
theorem q2060 : (Jvm.Cond.code ({ cls := "PailRowModel", name := "finishes", desc := "(I)V" } : Jvm.MethodName) prog_23_method_47_code (3 : Nat) (Option.none : Option Jvm.ClassFile.FieldType)) ∈ lw_all := lw_g (lw_at lw_m9 38 rfl) rfl
theorem q2061 : (Jvm.Cond.methodLink "PailRowModel" (337 : Nat) ({ cls := "PailRowModel", name := "push", desc := "(II)V" } : Jvm.MethodName)) ∈ lw_all := lw_g (lw_at lw_m9 39 rfl) rfl
theorem q2062 : (Jvm.Cond.privateMethod ({ cls := "PailRowModel", name := "push", desc := "(II)V" } : Jvm.MethodName)) ∈ lw_tbl := lw_at lw_m9 40 rfl
theorem q2063 : (Jvm.Cond.instanceMethod ({ cls := "PailRowModel", name := "push", desc := "(II)V" } : Jvm.MethodName)) ∈ lw_all := lw_g (lw_at lw_m9 41 rfl) rfl
theorem q2064 : (Jvm.Cond.code ({ cls := "PailRowModel", name := "push", desc := "(II)V" } : Jvm.MethodName) prog_23_method_45_code (3 : Nat) (Option.none : Option Jvm.ClassFile.FieldType)) ∈ lw_all := lw_g (lw_at lw_m9 42 rfl) rfl
theorem q2065 : (Jvm.Cond.methodLink "PailRowModel" (354 : Nat) ({ cls := "PailRowModel", name := "takesUp", desc := "(I)V" } : Jvm.MethodName)) ∈ lw_all := lw_g (lw_at lw_m9 43 rfl) rfl
theorem q2066 : (Jvm.Cond.privateMethod ({ cls := "PailRowModel", name := "takesUp", desc := "(I)V" } : Jvm.MethodName)) ∈ lw_tbl := lw_at lw_m9 44 rfl
theorem q2067 : (Jvm.Cond.instanceMethod ({ cls := "PailRowModel", name := "takesUp", desc := "(I)V" } : Jvm.MethodName)) ∈ lw_all := lw_g (lw_at lw_m9 45 rfl) rfl
theorem q2068 : (Jvm.Cond.code ({ cls := "PailRowModel", name := "takesUp", desc := "(I)V" } : Jvm.MethodName) prog_23_method_48_code (3 : Nat) (Option.none : Option Jvm.ClassFile.FieldType)) ∈ lw_all := lw_g (lw_at lw_m9 46 rfl) rfl
theorem q2069 : (Jvm.Cond.methodLink "PailRowModel" (341 : Nat) ({ cls := "PailRowModel", name := "draws", desc := "()I" } : Jvm.MethodName)) ∈ lw_all := lw_g (lw_at lw_m9 47 rfl) rfl
theorem q2070 : (Jvm.Cond.privateMethod ({ cls := "PailRowModel", name := "draws", desc := "()I" } : Jvm.MethodName)) ∈ lw_tbl := lw_at lw_m9 48 rfl
theorem q2071 : (Jvm.Cond.instanceMethod ({ cls := "PailRowModel", name := "draws", desc := "()I" } : Jvm.MethodName)) ∈ lw_all := lw_g (lw_at lw_m9 49 rfl) rfl
theorem q2072 : (Jvm.Cond.code ({ cls := "PailRowModel", name := "draws", desc := "()I" } : Jvm.MethodName) prog_23_method_44_code (2 : Nat) (Option.some Jvm.ClassFile.FieldType.int)) ∈ lw_all := lw_g (lw_at lw_m9 50 rfl) rfl
theorem q2073 : (Jvm.Cond.methodLink "PailRowModel" (344 : Nat) ({ cls := "PailRowModel", name := "shift", desc := "(I)I" } : Jvm.MethodName)) ∈ lw_all := lw_g (lw_at lw_m9 51 rfl) rfl
theorem q2074 : (Jvm.Cond.privateMethod ({ cls := "PailRowModel", name := "shift", desc := "(I)I" } : Jvm.MethodName)) ∈ lw_tbl := lw_at lw_m9 52 rfl
theorem q2075 : (Jvm.Cond.instanceMethod ({ cls := "PailRowModel", name := "shift", desc := "(I)I" } : Jvm.MethodName)) ∈ lw_all := lw_g (lw_at lw_m9 53 rfl) rfl
theorem q2076 : (Jvm.Cond.code ({ cls := "PailRowModel", name := "shift", desc := "(I)I" } : Jvm.MethodName) prog_23_method_46_code (4 : Nat) (Option.some Jvm.ClassFile.FieldType.int)) ∈ lw_all := lw_g (lw_at lw_m9 54 rfl) rfl
theorem q2077 : (Jvm.Cond.methodLink "PailRowModel" (347 : Nat) ({ cls := "PailRowModel", name := "timeOf", desc := "(III)I" } : Jvm.MethodName)) ∈ lw_all := lw_g (lw_at lw_m9 55 rfl) rfl
theorem q2078 : (Jvm.Cond.privateMethod ({ cls := "PailRowModel", name := "timeOf", desc := "(III)I" } : Jvm.MethodName)) ∈ lw_tbl := lw_at lw_m9 56 rfl
theorem q2079 : (Jvm.Cond.instanceMethod ({ cls := "PailRowModel", name := "timeOf", desc := "(III)I" } : Jvm.MethodName)) ∈ lw_all := lw_g (lw_at lw_m9 57 rfl) rfl
theorem q2080 : (Jvm.Cond.code ({ cls := "PailRowModel", name := "timeOf", desc := "(III)I" } : Jvm.MethodName) prog_23_method_43_code (4 : Nat) (Option.some Jvm.ClassFile.FieldType.int)) ∈ lw_all := lw_g (lw_at lw_m9 58 rfl) rfl
theorem q2081 : (Jvm.Cond.methodLink "PailRowModel" (331 : Nat) ({ cls := "PailRowModel", name := "yards", desc := "(I)I" } : Jvm.MethodName)) ∈ lw_all := lw_g (lw_at lw_m9 59 rfl) rfl
theorem q2082 : (Jvm.Cond.privateMethod ({ cls := "PailRowModel", name := "yards", desc := "(I)I" } : Jvm.MethodName)) ∈ lw_tbl := lw_at lw_m9 60 rfl
theorem q2083 : (Jvm.Cond.instanceMethod ({ cls := "PailRowModel", name := "yards", desc := "(I)I" } : Jvm.MethodName)) ∈ lw_all := lw_g (lw_at lw_m9 61 rfl) rfl
theorem q2084 : (Jvm.Cond.code ({ cls := "PailRowModel", name := "yards", desc := "(I)I" } : Jvm.MethodName) prog_23_method_42_code (2 : Nat) (Option.some Jvm.ClassFile.FieldType.int)) ∈ lw_all := lw_g (lw_at lw_m9 62 rfl) rfl
theorem q2085 : (Jvm.Cond.methodLink "PailRowModel" (328 : Nat) ({ cls := "PailRowModel", name := "up", desc := "(II)I" } : Jvm.MethodName)) ∈ lw_all := lw_g (lw_at lw_m9 63 rfl) rfl
theorem q2086 : (Jvm.Cond.static ({ cls := "PailRowModel", name := "up", desc := "(II)I" } : Jvm.MethodName)) ∈ lw_all := lw_g (lw_at lw_m9 64 rfl) rfl
theorem q2087 : (Jvm.Cond.code ({ cls := "PailRowModel", name := "up", desc := "(II)I" } : Jvm.MethodName) prog_23_method_10_code (2 : Nat) (Option.some Jvm.ClassFile.FieldType.int)) ∈ lw_all := lw_g (lw_at lw_m9 65 rfl) rfl
theorem q2088 : (Jvm.Cond.methodLink "PailRowModel" (363 : Nat) ({ cls := "PailRowModel", name := "runTick", desc := "()V" } : Jvm.MethodName)) ∈ lw_all := lw_g (lw_at lw_m9 66 rfl) rfl
theorem q2089 : (Jvm.Cond.privateMethod ({ cls := "PailRowModel", name := "runTick", desc := "()V" } : Jvm.MethodName)) ∈ lw_tbl := lw_at lw_m9 67 rfl
theorem q2090 : (Jvm.Cond.instanceMethod ({ cls := "PailRowModel", name := "runTick", desc := "()V" } : Jvm.MethodName)) ∈ lw_all := lw_g (lw_at lw_m9 68 rfl) rfl
theorem q2091 : (Jvm.Cond.code ({ cls := "PailRowModel", name := "runTick", desc := "()V" } : Jvm.MethodName) prog_23_method_51_code (3 : Nat) (Option.none : Option Jvm.ClassFile.FieldType)) ∈ lw_all := lw_g (lw_at lw_m9 69 rfl) rfl
theorem q2092 : (Jvm.Cond.methodLink "PailRowModel" (357 : Nat) ({ cls := "PailRowModel", name := "isDrawn", desc := "()Z" } : Jvm.MethodName)) ∈ lw_all := lw_g (lw_at lw_m9 70 rfl) rfl
theorem q2093 : (Jvm.Cond.privateMethod ({ cls := "PailRowModel", name := "isDrawn", desc := "()Z" } : Jvm.MethodName)) ∈ lw_tbl := lw_at lw_m9 71 rfl
theorem q2094 : (Jvm.Cond.instanceMethod ({ cls := "PailRowModel", name := "isDrawn", desc := "()Z" } : Jvm.MethodName)) ∈ lw_all := lw_g (lw_at lw_m9 72 rfl) rfl
theorem q2095 : (Jvm.Cond.code ({ cls := "PailRowModel", name := "isDrawn", desc := "()Z" } : Jvm.MethodName) prog_23_method_50_code (2 : Nat) (Option.some Jvm.ClassFile.FieldType.boolean)) ∈ lw_all := lw_g (lw_at lw_m9 73 rfl) rfl
theorem q2097 : (Jvm.Cond.instanceMethod ({ cls := "PailRowModel", name := "rowBy", desc := "(I)I" } : Jvm.MethodName)) ∈ lw_all := lw_g (lw_at lw_m9 75 rfl) rfl
theorem q2098 : (Jvm.Cond.selects "PailRowModel" ({ cls := "PailRowModel", name := "rowBy", desc := "(I)I" } : Jvm.MethodName) ({ cls := "PailRowModel", name := "rowBy", desc := "(I)I" } : Jvm.MethodName)) ∈ lw_all := lw_g (lw_at lw_m9 76 rfl) rfl
theorem q2099 : (Jvm.Cond.code ({ cls := "PailRowModel", name := "rowBy", desc := "(I)I" } : Jvm.MethodName) prog_23_method_56_code (2 : Nat) (Option.some Jvm.ClassFile.FieldType.int)) ∈ lw_all := lw_g (lw_at lw_m9 77 rfl) rfl
theorem q2101 : (Jvm.Cond.instanceMethod ({ cls := "PailRowModel", name := "done", desc := "(I)I" } : Jvm.MethodName)) ∈ lw_all := lw_g (lw_at lw_m9 79 rfl) rfl
theorem q2102 : (Jvm.Cond.selects "PailRowModel" ({ cls := "PailRowModel", name := "done", desc := "(I)I" } : Jvm.MethodName) ({ cls := "PailRowModel", name := "done", desc := "(I)I" } : Jvm.MethodName)) ∈ lw_all := lw_g (lw_at lw_m9 80 rfl) rfl
theorem q2103 : (Jvm.Cond.code ({ cls := "PailRowModel", name := "done", desc := "(I)I" } : Jvm.MethodName) prog_23_method_57_code (2 : Nat) (Option.some Jvm.ClassFile.FieldType.int)) ∈ lw_all := lw_g (lw_at lw_m9 81 rfl) rfl
theorem q2105 : (Jvm.Cond.instanceMethod ({ cls := "PailRowModel", name := "period", desc := "()I" } : Jvm.MethodName)) ∈ lw_all := lw_g (lw_at lw_m9 83 rfl) rfl
theorem q2106 : (Jvm.Cond.selects "PailRowModel" ({ cls := "PailRowModel", name := "period", desc := "()I" } : Jvm.MethodName) ({ cls := "PailRowModel", name := "period", desc := "()I" } : Jvm.MethodName)) ∈ lw_all := lw_g (lw_at lw_m9 84 rfl) rfl
theorem q2107 : (Jvm.Cond.code ({ cls := "PailRowModel", name := "period", desc := "()I" } : Jvm.MethodName) prog_23_method_59_code (1 : Nat) (Option.some Jvm.ClassFile.FieldType.int)) ∈ lw_all := lw_g (lw_at lw_m9 85 rfl) rfl
theorem q2108 : (Jvm.Cond.methodLink "PailRowModel" (383 : Nat) ({ cls := "PailRowModel", name := "periodOf", desc := "(I)I" } : Jvm.MethodName)) ∈ lw_all := lw_g (lw_at lw_m9 86 rfl) rfl
theorem q2109 : (Jvm.Cond.privateMethod ({ cls := "PailRowModel", name := "periodOf", desc := "(I)I" } : Jvm.MethodName)) ∈ lw_tbl := lw_at lw_m9 87 rfl
theorem q2110 : (Jvm.Cond.instanceMethod ({ cls := "PailRowModel", name := "periodOf", desc := "(I)I" } : Jvm.MethodName)) ∈ lw_all := lw_g (lw_at lw_m9 88 rfl) rfl
theorem q2111 : (Jvm.Cond.code ({ cls := "PailRowModel", name := "periodOf", desc := "(I)I" } : Jvm.MethodName) prog_23_method_58_code (4 : Nat) (Option.some Jvm.ClassFile.FieldType.int)) ∈ lw_all := lw_g (lw_at lw_m9 89 rfl) rfl
theorem q2113 : (Jvm.Cond.instanceMethod ({ cls := "PailRowModel", name := "best", desc := "()I" } : Jvm.MethodName)) ∈ lw_all := lw_g (lw_at lw_m9 91 rfl) rfl
theorem q2114 : (Jvm.Cond.selects "PailRowModel" ({ cls := "PailRowModel", name := "best", desc := "()I" } : Jvm.MethodName) ({ cls := "PailRowModel", name := "best", desc := "()I" } : Jvm.MethodName)) ∈ lw_all := lw_g (lw_at lw_m9 92 rfl) rfl
theorem q2115 : (Jvm.Cond.code ({ cls := "PailRowModel", name := "best", desc := "()I" } : Jvm.MethodName) prog_23_method_61_code (3 : Nat) (Option.some Jvm.ClassFile.FieldType.int)) ∈ lw_all := lw_g (lw_at lw_m9 93 rfl) rfl
theorem q2116 : (Jvm.Cond.methodLink "PailRowModel" (392 : Nat) ({ cls := "PailRowModel", name := "tryOrder", desc := "(III)V" } : Jvm.MethodName)) ∈ lw_all := lw_g (lw_at lw_m9 94 rfl) rfl
theorem q2117 : (Jvm.Cond.privateMethod ({ cls := "PailRowModel", name := "tryOrder", desc := "(III)V" } : Jvm.MethodName)) ∈ lw_tbl := lw_at lw_m9 95 rfl
theorem q2118 : (Jvm.Cond.instanceMethod ({ cls := "PailRowModel", name := "tryOrder", desc := "(III)V" } : Jvm.MethodName)) ∈ lw_all := lw_g (lw_at lw_m9 96 rfl) rfl
theorem q2119 : (Jvm.Cond.code ({ cls := "PailRowModel", name := "tryOrder", desc := "(III)V" } : Jvm.MethodName) prog_23_method_60_code (6 : Nat) (Option.none : Option Jvm.ClassFile.FieldType)) ∈ lw_all := lw_g (lw_at lw_m9 97 rfl) rfl
theorem q2121 : (Jvm.Cond.instanceMethod ({ cls := "PailRowModel", name := "bestAt", desc := "(I)I" } : Jvm.MethodName)) ∈ lw_all := lw_g (lw_at lw_m9 99 rfl) rfl
theorem q2122 : (Jvm.Cond.selects "PailRowModel" ({ cls := "PailRowModel", name := "bestAt", desc := "(I)I" } : Jvm.MethodName) ({ cls := "PailRowModel", name := "bestAt", desc := "(I)I" } : Jvm.MethodName)) ∈ lw_all := lw_g (lw_at lw_m9 100 rfl) rfl
theorem q2123 : (Jvm.Cond.code ({ cls := "PailRowModel", name := "bestAt", desc := "(I)I" } : Jvm.MethodName) prog_23_method_62_code (2 : Nat) (Option.some Jvm.ClassFile.FieldType.int)) ∈ lw_all := lw_g (lw_at lw_m9 101 rfl) rfl
theorem q2125 : (Jvm.Cond.instanceMethod ({ cls := "PailRowModel", name := "running", desc := "(I)I" } : Jvm.MethodName)) ∈ lw_all := lw_g (lw_at lw_m9 103 rfl) rfl
theorem q2126 : (Jvm.Cond.selects "PailRowModel" ({ cls := "PailRowModel", name := "running", desc := "(I)I" } : Jvm.MethodName) ({ cls := "PailRowModel", name := "running", desc := "(I)I" } : Jvm.MethodName)) ∈ lw_all := lw_g (lw_at lw_m9 104 rfl) rfl
theorem q2127 : (Jvm.Cond.code ({ cls := "PailRowModel", name := "running", desc := "(I)I" } : Jvm.MethodName) prog_23_method_63_code (2 : Nat) (Option.some Jvm.ClassFile.FieldType.int)) ∈ lw_all := lw_g (lw_at lw_m9 105 rfl) rfl
theorem q2129 : (Jvm.Cond.instanceMethod ({ cls := "PailRowModel", name := "line", desc := "(I)I" } : Jvm.MethodName)) ∈ lw_all := lw_g (lw_at lw_m9 107 rfl) rfl
theorem q2130 : (Jvm.Cond.selects "PailRowModel" ({ cls := "PailRowModel", name := "line", desc := "(I)I" } : Jvm.MethodName) ({ cls := "PailRowModel", name := "line", desc := "(I)I" } : Jvm.MethodName)) ∈ lw_all := lw_g (lw_at lw_m9 108 rfl) rfl
theorem q2131 : (Jvm.Cond.code ({ cls := "PailRowModel", name := "line", desc := "(I)I" } : Jvm.MethodName) prog_23_method_64_code (4 : Nat) (Option.some Jvm.ClassFile.FieldType.int)) ∈ lw_all := lw_g (lw_at lw_m9 109 rfl) rfl
theorem q2133 : (Jvm.Cond.instanceMethod ({ cls := "PailRowModel", name := "cost", desc := "(II)I" } : Jvm.MethodName)) ∈ lw_all := lw_g (lw_at lw_m9 111 rfl) rfl
theorem q2134 : (Jvm.Cond.selects "PailRowModel" ({ cls := "PailRowModel", name := "cost", desc := "(II)I" } : Jvm.MethodName) ({ cls := "PailRowModel", name := "cost", desc := "(II)I" } : Jvm.MethodName)) ∈ lw_all := lw_g (lw_at lw_m9 112 rfl) rfl
theorem q2135 : (Jvm.Cond.code ({ cls := "PailRowModel", name := "cost", desc := "(II)I" } : Jvm.MethodName) prog_23_method_65_code (7 : Nat) (Option.some Jvm.ClassFile.FieldType.int)) ∈ lw_all := lw_g (lw_at lw_m9 113 rfl) rfl
theorem q2137 : (Jvm.Cond.instanceMethod ({ cls := "PailRowModel", name := "more", desc := "(I)I" } : Jvm.MethodName)) ∈ lw_all := lw_g (lw_at lw_m9 115 rfl) rfl
theorem q2138 : (Jvm.Cond.selects "PailRowModel" ({ cls := "PailRowModel", name := "more", desc := "(I)I" } : Jvm.MethodName) ({ cls := "PailRowModel", name := "more", desc := "(I)I" } : Jvm.MethodName)) ∈ lw_all := lw_g (lw_at lw_m9 116 rfl) rfl
theorem q2139 : (Jvm.Cond.code ({ cls := "PailRowModel", name := "more", desc := "(I)I" } : Jvm.MethodName) prog_23_method_68_code (3 : Nat) (Option.some Jvm.ClassFile.FieldType.int)) ∈ lw_all := lw_g (lw_at lw_m9 117 rfl) rfl
theorem q2140 : (Jvm.Cond.methodLink "PailRowModel" (402 : Nat) ({ cls := "PailRowModel", name := "longest", desc := "(I)I" } : Jvm.MethodName)) ∈ lw_all := lw_g (lw_at lw_m9 118 rfl) rfl
theorem q2141 : (Jvm.Cond.privateMethod ({ cls := "PailRowModel", name := "longest", desc := "(I)I" } : Jvm.MethodName)) ∈ lw_tbl := lw_at lw_m9 119 rfl
theorem q2142 : (Jvm.Cond.instanceMethod ({ cls := "PailRowModel", name := "longest", desc := "(I)I" } : Jvm.MethodName)) ∈ lw_all := lw_g (lw_at lw_m9 120 rfl) rfl
theorem q2143 : (Jvm.Cond.code ({ cls := "PailRowModel", name := "longest", desc := "(I)I" } : Jvm.MethodName) prog_23_method_67_code (4 : Nat) (Option.some Jvm.ClassFile.FieldType.int)) ∈ lw_all := lw_g (lw_at lw_m9 121 rfl) rfl
theorem q2144 : (Jvm.Cond.methodLink "PailRowModel" (399 : Nat) ({ cls := "PailRowModel", name := "shared", desc := "(II)I" } : Jvm.MethodName)) ∈ lw_all := lw_g (lw_at lw_m9 122 rfl) rfl
theorem q2145 : (Jvm.Cond.privateMethod ({ cls := "PailRowModel", name := "shared", desc := "(II)I" } : Jvm.MethodName)) ∈ lw_tbl := lw_at lw_m9 123 rfl
theorem q2146 : (Jvm.Cond.instanceMethod ({ cls := "PailRowModel", name := "shared", desc := "(II)I" } : Jvm.MethodName)) ∈ lw_all := lw_g (lw_at lw_m9 124 rfl) rfl
theorem q2147 : (Jvm.Cond.code ({ cls := "PailRowModel", name := "shared", desc := "(II)I" } : Jvm.MethodName) prog_23_method_66_code (3 : Nat) (Option.some Jvm.ClassFile.FieldType.int)) ∈ lw_all := lw_g (lw_at lw_m9 125 rfl) rfl
theorem q2149 : (Jvm.Cond.instanceMethod ({ cls := "PailRowModel", name := "moreAt", desc := "(I)I" } : Jvm.MethodName)) ∈ lw_all := lw_g (lw_at lw_m9 127 rfl) rfl
theorem q2150 : (Jvm.Cond.selects "PailRowModel" ({ cls := "PailRowModel", name := "moreAt", desc := "(I)I" } : Jvm.MethodName) ({ cls := "PailRowModel", name := "moreAt", desc := "(I)I" } : Jvm.MethodName)) ∈ lw_all := lw_g (lw_at lw_m9 128 rfl) rfl
theorem q2151 : (Jvm.Cond.code ({ cls := "PailRowModel", name := "moreAt", desc := "(I)I" } : Jvm.MethodName) prog_23_method_69_code (2 : Nat) (Option.some Jvm.ClassFile.FieldType.int)) ∈ lw_all := lw_g (lw_at lw_m9 129 rfl) rfl
theorem q2153 : (Jvm.Cond.instanceMethod ({ cls := "PailRowModel", name := "relief", desc := "()I" } : Jvm.MethodName)) ∈ lw_all := lw_g (lw_at lw_m9 131 rfl) rfl
theorem q2154 : (Jvm.Cond.selects "PailRowModel" ({ cls := "PailRowModel", name := "relief", desc := "()I" } : Jvm.MethodName) ({ cls := "PailRowModel", name := "relief", desc := "()I" } : Jvm.MethodName)) ∈ lw_all := lw_g (lw_at lw_m9 132 rfl) rfl
theorem q2155 : (Jvm.Cond.code ({ cls := "PailRowModel", name := "relief", desc := "()I" } : Jvm.MethodName) prog_23_method_71_code (2 : Nat) (Option.some Jvm.ClassFile.FieldType.int)) ∈ lw_all := lw_g (lw_at lw_m9 133 rfl) rfl
theorem q2156 : (Jvm.Cond.methodLink "PailRowModel" (408 : Nat) ({ cls := "PailRowModel", name := "canThrow", desc := "(I)Z" } : Jvm.MethodName)) ∈ lw_all := lw_g (lw_at lw_m9 134 rfl) rfl
theorem q2157 : (Jvm.Cond.privateMethod ({ cls := "PailRowModel", name := "canThrow", desc := "(I)Z" } : Jvm.MethodName)) ∈ lw_tbl := lw_at lw_m9 135 rfl
theorem q2158 : (Jvm.Cond.instanceMethod ({ cls := "PailRowModel", name := "canThrow", desc := "(I)Z" } : Jvm.MethodName)) ∈ lw_all := lw_g (lw_at lw_m9 136 rfl) rfl
theorem q2159 : (Jvm.Cond.code ({ cls := "PailRowModel", name := "canThrow", desc := "(I)Z" } : Jvm.MethodName) prog_23_method_70_code (5 : Nat) (Option.some Jvm.ClassFile.FieldType.boolean)) ∈ lw_all := lw_g (lw_at lw_m9 137 rfl) rfl
theorem q2161 : (Jvm.Cond.instanceMethod ({ cls := "PailRowModel", name := "hooks", desc := "(I)I" } : Jvm.MethodName)) ∈ lw_all := lw_g (lw_at lw_m9 139 rfl) rfl
theorem q2162 : (Jvm.Cond.selects "PailRowModel" ({ cls := "PailRowModel", name := "hooks", desc := "(I)I" } : Jvm.MethodName) ({ cls := "PailRowModel", name := "hooks", desc := "(I)I" } : Jvm.MethodName)) ∈ lw_all := lw_g (lw_at lw_m9 140 rfl) rfl
theorem q2163 : (Jvm.Cond.code ({ cls := "PailRowModel", name := "hooks", desc := "(I)I" } : Jvm.MethodName) prog_23_method_73_code (3 : Nat) (Option.some Jvm.ClassFile.FieldType.int)) ∈ lw_all := lw_g (lw_at lw_m9 141 rfl) rfl
theorem q2164 : (Jvm.Cond.methodLink "PailRowModel" (417 : Nat) ({ cls := "PailRowModel", name := "tryHooks", desc := "(III)V" } : Jvm.MethodName)) ∈ lw_all := lw_g (lw_at lw_m9 142 rfl) rfl
theorem q2165 : (Jvm.Cond.privateMethod ({ cls := "PailRowModel", name := "tryHooks", desc := "(III)V" } : Jvm.MethodName)) ∈ lw_tbl := lw_at lw_m9 143 rfl
theorem q2166 : (Jvm.Cond.instanceMethod ({ cls := "PailRowModel", name := "tryHooks", desc := "(III)V" } : Jvm.MethodName)) ∈ lw_all := lw_g (lw_at lw_m9 144 rfl) rfl
theorem q2167 : (Jvm.Cond.code ({ cls := "PailRowModel", name := "tryHooks", desc := "(III)V" } : Jvm.MethodName) prog_23_method_72_code (9 : Nat) (Option.none : Option Jvm.ClassFile.FieldType)) ∈ lw_all := lw_g (lw_at lw_m9 145 rfl) rfl
theorem q2169 : (Jvm.Cond.instanceMethod ({ cls := "PailRowModel", name := "hookAt", desc := "(I)I" } : Jvm.MethodName)) ∈ lw_all := lw_g (lw_at lw_m9 147 rfl) rfl
theorem q2170 : (Jvm.Cond.selects "PailRowModel" ({ cls := "PailRowModel", name := "hookAt", desc := "(I)I" } : Jvm.MethodName) ({ cls := "PailRowModel", name := "hookAt", desc := "(I)I" } : Jvm.MethodName)) ∈ lw_all := lw_g (lw_at lw_m9 148 rfl) rfl
theorem q2171 : (Jvm.Cond.code ({ cls := "PailRowModel", name := "hookAt", desc := "(I)I" } : Jvm.MethodName) prog_23_method_74_code (2 : Nat) (Option.some Jvm.ClassFile.FieldType.int)) ∈ lw_all := lw_g (lw_at lw_m9 149 rfl) rfl
theorem q2173 : (Jvm.Cond.instanceMethod ({ cls := "PailRowModel", name := "fire", desc := "(IIII)I" } : Jvm.MethodName)) ∈ lw_all := lw_g (lw_at lw_m9 151 rfl) rfl
theorem q2174 : (Jvm.Cond.selects "PailRowModel" ({ cls := "PailRowModel", name := "fire", desc := "(IIII)I" } : Jvm.MethodName) ({ cls := "PailRowModel", name := "fire", desc := "(IIII)I" } : Jvm.MethodName)) ∈ lw_all := lw_g (lw_at lw_m9 152 rfl) rfl
theorem q2175 : (Jvm.Cond.code ({ cls := "PailRowModel", name := "fire", desc := "(IIII)I" } : Jvm.MethodName) prog_23_method_83_code (6 : Nat) (Option.some Jvm.ClassFile.FieldType.int)) ∈ lw_all := lw_g (lw_at lw_m9 153 rfl) rfl
theorem q2176 : (Jvm.Cond.methodLink "PailRowModel" (448 : Nat) ({ cls := "PailRowModel", name := "isAim", desc := "(I)Z" } : Jvm.MethodName)) ∈ lw_all := lw_g (lw_at lw_m9 154 rfl) rfl
theorem q2177 : (Jvm.Cond.privateMethod ({ cls := "PailRowModel", name := "isAim", desc := "(I)Z" } : Jvm.MethodName)) ∈ lw_tbl := lw_at lw_m9 155 rfl
theorem q2178 : (Jvm.Cond.instanceMethod ({ cls := "PailRowModel", name := "isAim", desc := "(I)Z" } : Jvm.MethodName)) ∈ lw_all := lw_g (lw_at lw_m9 156 rfl) rfl
theorem q2179 : (Jvm.Cond.code ({ cls := "PailRowModel", name := "isAim", desc := "(I)Z" } : Jvm.MethodName) prog_23_method_80_code (2 : Nat) (Option.some Jvm.ClassFile.FieldType.boolean)) ∈ lw_all := lw_g (lw_at lw_m9 157 rfl) rfl
theorem q2180 : (Jvm.Cond.methodLink "PailRowModel" (451 : Nat) ({ cls := "PailRowModel", name := "light", desc := "()V" } : Jvm.MethodName)) ∈ lw_all := lw_g (lw_at lw_m9 158 rfl) rfl
theorem q2181 : (Jvm.Cond.privateMethod ({ cls := "PailRowModel", name := "light", desc := "()V" } : Jvm.MethodName)) ∈ lw_tbl := lw_at lw_m9 159 rfl
theorem q2182 : (Jvm.Cond.instanceMethod ({ cls := "PailRowModel", name := "light", desc := "()V" } : Jvm.MethodName)) ∈ lw_all := lw_g (lw_at lw_m9 160 rfl) rfl
theorem q2183 : (Jvm.Cond.code ({ cls := "PailRowModel", name := "light", desc := "()V" } : Jvm.MethodName) prog_23_method_75_code (2 : Nat) (Option.none : Option Jvm.ClassFile.FieldType)) ∈ lw_all := lw_g (lw_at lw_m9 161 rfl) rfl
theorem q2184 : (Jvm.Cond.methodLink "PailRowModel" (426 : Nat) ({ cls := "PailRowModel", name := "cells", desc := "()I" } : Jvm.MethodName)) ∈ lw_all := lw_g (lw_at lw_m9 162 rfl) rfl
theorem q2185 : (Jvm.Cond.privateMethod ({ cls := "PailRowModel", name := "cells", desc := "()I" } : Jvm.MethodName)) ∈ lw_tbl := lw_at lw_m9 163 rfl
theorem q2186 : (Jvm.Cond.instanceMethod ({ cls := "PailRowModel", name := "cells", desc := "()I" } : Jvm.MethodName)) ∈ lw_all := lw_g (lw_at lw_m9 164 rfl) rfl
theorem q2187 : (Jvm.Cond.code ({ cls := "PailRowModel", name := "cells", desc := "()I" } : Jvm.MethodName) prog_23_method_30_code (1 : Nat) (Option.some Jvm.ClassFile.FieldType.int)) ∈ lw_all := lw_g (lw_at lw_m9 165 rfl) rfl
theorem q2188 : (Jvm.Cond.methodLink "PailRowModel" (454 : Nat) ({ cls := "PailRowModel", name := "fires", desc := "(IIII)V" } : Jvm.MethodName)) ∈ lw_all := lw_g (lw_at lw_m9 166 rfl) rfl
theorem q2189 : (Jvm.Cond.privateMethod ({ cls := "PailRowModel", name := "fires", desc := "(IIII)V" } : Jvm.MethodName)) ∈ lw_tbl := lw_at lw_m9 167 rfl
theorem q2190 : (Jvm.Cond.instanceMethod ({ cls := "PailRowModel", name := "fires", desc := "(IIII)V" } : Jvm.MethodName)) ∈ lw_all := lw_g (lw_at lw_m9 168 rfl) rfl
theorem q2191 : (Jvm.Cond.code ({ cls := "PailRowModel", name := "fires", desc := "(IIII)V" } : Jvm.MethodName) prog_23_method_82_code (7 : Nat) (Option.none : Option Jvm.ClassFile.FieldType)) ∈ lw_all := lw_g (lw_at lw_m9 169 rfl) rfl
theorem q2192 : (Jvm.Cond.methodLink "PailRowModel" (436 : Nat) ({ cls := "PailRowModel", name := "burning", desc := "()I" } : Jvm.MethodName)) ∈ lw_all := lw_g (lw_at lw_m9 170 rfl) rfl
theorem q2193 : (Jvm.Cond.privateMethod ({ cls := "PailRowModel", name := "burning", desc := "()I" } : Jvm.MethodName)) ∈ lw_tbl := lw_at lw_m9 171 rfl
theorem q2194 : (Jvm.Cond.instanceMethod ({ cls := "PailRowModel", name := "burning", desc := "()I" } : Jvm.MethodName)) ∈ lw_all := lw_g (lw_at lw_m9 172 rfl) rfl
theorem q2195 : (Jvm.Cond.code ({ cls := "PailRowModel", name := "burning", desc := "()I" } : Jvm.MethodName) prog_23_method_76_code (3 : Nat) (Option.some Jvm.ClassFile.FieldType.int)) ∈ lw_all := lw_g (lw_at lw_m9 173 rfl) rfl
theorem q2196 : (Jvm.Cond.methodLink "PailRowModel" (442 : Nat) ({ cls := "PailRowModel", name := "aimed", desc := "(I[I[II)I" } : Jvm.MethodName)) ∈ lw_all := lw_g (lw_at lw_m9 174 rfl) rfl
theorem q2197 : (Jvm.Cond.privateMethod ({ cls := "PailRowModel", name := "aimed", desc := "(I[I[II)I" } : Jvm.MethodName)) ∈ lw_tbl := lw_at lw_m9 175 rfl
theorem q2198 : (Jvm.Cond.instanceMethod ({ cls := "PailRowModel", name := "aimed", desc := "(I[I[II)I" } : Jvm.MethodName)) ∈ lw_all := lw_g (lw_at lw_m9 176 rfl) rfl
theorem q2199 : (Jvm.Cond.code ({ cls := "PailRowModel", name := "aimed", desc := "(I[I[II)I" } : Jvm.MethodName) prog_23_method_81_code (9 : Nat) (Option.some Jvm.ClassFile.FieldType.int)) ∈ lw_all := lw_g (lw_at lw_m9 177 rfl) rfl
theorem q2200 : (Jvm.Cond.methodLink "PailRowModel" (432 : Nat) ({ cls := "PailRowModel", name := "heatOf", desc := "(I[I[II)I" } : Jvm.MethodName)) ∈ lw_all := lw_g (lw_at lw_m9 178 rfl) rfl
theorem q2201 : (Jvm.Cond.privateMethod ({ cls := "PailRowModel", name := "heatOf", desc := "(I[I[II)I" } : Jvm.MethodName)) ∈ lw_tbl := lw_at lw_m9 179 rfl
theorem q2202 : (Jvm.Cond.instanceMethod ({ cls := "PailRowModel", name := "heatOf", desc := "(I[I[II)I" } : Jvm.MethodName)) ∈ lw_all := lw_g (lw_at lw_m9 180 rfl) rfl
theorem q2203 : (Jvm.Cond.code ({ cls := "PailRowModel", name := "heatOf", desc := "(I[I[II)I" } : Jvm.MethodName) prog_23_method_78_code (9 : Nat) (Option.some Jvm.ClassFile.FieldType.int)) ∈ lw_all := lw_g (lw_at lw_m9 181 rfl) rfl
theorem q2204 : (Jvm.Cond.methodLink "PailRowModel" (429 : Nat) ({ cls := "PailRowModel", name := "neighbour", desc := "(II)I" } : Jvm.MethodName)) ∈ lw_all := lw_g (lw_at lw_m9 182 rfl) rfl
theorem q2205 : (Jvm.Cond.privateMethod ({ cls := "PailRowModel", name := "neighbour", desc := "(II)I" } : Jvm.MethodName)) ∈ lw_tbl := lw_at lw_m9 183 rfl
theorem q2206 : (Jvm.Cond.instanceMethod ({ cls := "PailRowModel", name := "neighbour", desc := "(II)I" } : Jvm.MethodName)) ∈ lw_all := lw_g (lw_at lw_m9 184 rfl) rfl
theorem q2207 : (Jvm.Cond.code ({ cls := "PailRowModel", name := "neighbour", desc := "(II)I" } : Jvm.MethodName) prog_23_method_77_code (5 : Nat) (Option.some Jvm.ClassFile.FieldType.int)) ∈ lw_all := lw_g (lw_at lw_m9 185 rfl) rfl
theorem q2208 : (Jvm.Cond.methodLink "PailRowModel" (445 : Nat) ({ cls := "PailRowModel", name := "minute", desc := "(II)V" } : Jvm.MethodName)) ∈ lw_all := lw_g (lw_at lw_m9 186 rfl) rfl
theorem q2209 : (Jvm.Cond.privateMethod ({ cls := "PailRowModel", name := "minute", desc := "(II)V" } : Jvm.MethodName)) ∈ lw_tbl := lw_at lw_m9 187 rfl
theorem q2210 : (Jvm.Cond.instanceMethod ({ cls := "PailRowModel", name := "minute", desc := "(II)V" } : Jvm.MethodName)) ∈ lw_all := lw_g (lw_at lw_m9 188 rfl) rfl
theorem q2211 : (Jvm.Cond.code ({ cls := "PailRowModel", name := "minute", desc := "(II)V" } : Jvm.MethodName) prog_23_method_79_code (4 : Nat) (Option.none : Option Jvm.ClassFile.FieldType)) ∈ lw_all := lw_g (lw_at lw_m9 189 rfl) rfl
theorem q2213 : (Jvm.Cond.instanceMethod ({ cls := "PailRowModel", name := "fireAt", desc := "(III)I" } : Jvm.MethodName)) ∈ lw_all := lw_g (lw_at lw_m9 191 rfl) rfl
theorem q2214 : (Jvm.Cond.selects "PailRowModel" ({ cls := "PailRowModel", name := "fireAt", desc := "(III)I" } : Jvm.MethodName) ({ cls := "PailRowModel", name := "fireAt", desc := "(III)I" } : Jvm.MethodName)) ∈ lw_all := lw_g (lw_at lw_m9 192 rfl) rfl
theorem q2215 : (Jvm.Cond.code ({ cls := "PailRowModel", name := "fireAt", desc := "(III)I" } : Jvm.MethodName) prog_23_method_84_code (4 : Nat) (Option.some Jvm.ClassFile.FieldType.int)) ∈ lw_all := lw_g (lw_at lw_m9 193 rfl) rfl
theorem q2217 : (Jvm.Cond.instanceMethod ({ cls := "PailRowModel", name := "out", desc := "()I" } : Jvm.MethodName)) ∈ lw_all := lw_g (lw_at lw_m9 195 rfl) rfl
theorem q2218 : (Jvm.Cond.selects "PailRowModel" ({ cls := "PailRowModel", name := "out", desc := "()I" } : Jvm.MethodName) ({ cls := "PailRowModel", name := "out", desc := "()I" } : Jvm.MethodName)) ∈ lw_all := lw_g (lw_at lw_m9 196 rfl) rfl
theorem q2219 : (Jvm.Cond.code ({ cls := "PailRowModel", name := "out", desc := "()I" } : Jvm.MethodName) prog_23_method_85_code (1 : Nat) (Option.some Jvm.ClassFile.FieldType.int)) ∈ lw_all := lw_g (lw_at lw_m9 197 rfl) rfl
theorem q2221 : (Jvm.Cond.instanceMethod ({ cls := "PailRowModel", name := "aims", desc := "(II)I" } : Jvm.MethodName)) ∈ lw_all := lw_g (lw_at lw_m9 199 rfl) rfl
theorem q2222 : (Jvm.Cond.selects "PailRowModel" ({ cls := "PailRowModel", name := "aims", desc := "(II)I" } : Jvm.MethodName) ({ cls := "PailRowModel", name := "aims", desc := "(II)I" } : Jvm.MethodName)) ∈ lw_all := lw_g (lw_at lw_m9 200 rfl) rfl
theorem q2223 : (Jvm.Cond.code ({ cls := "PailRowModel", name := "aims", desc := "(II)I" } : Jvm.MethodName) prog_23_method_89_code (4 : Nat) (Option.some Jvm.ClassFile.FieldType.int)) ∈ lw_all := lw_g (lw_at lw_m9 201 rfl) rfl
theorem q2224 : (Jvm.Cond.methodLink "PailRowModel" (476 : Nat) ({ cls := "PailRowModel", name := "tryAims", desc := "(II)V" } : Jvm.MethodName)) ∈ lw_all := lw_g (lw_at lw_m9 202 rfl) rfl
theorem q2225 : (Jvm.Cond.privateMethod ({ cls := "PailRowModel", name := "tryAims", desc := "(II)V" } : Jvm.MethodName)) ∈ lw_tbl := lw_at lw_m9 203 rfl
theorem q2226 : (Jvm.Cond.instanceMethod ({ cls := "PailRowModel", name := "tryAims", desc := "(II)V" } : Jvm.MethodName)) ∈ lw_all := lw_g (lw_at lw_m9 204 rfl) rfl
theorem q2227 : (Jvm.Cond.code ({ cls := "PailRowModel", name := "tryAims", desc := "(II)V" } : Jvm.MethodName) prog_23_method_88_code (6 : Nat) (Option.none : Option Jvm.ClassFile.FieldType)) ∈ lw_all := lw_g (lw_at lw_m9 205 rfl) rfl
theorem q2228 : (Jvm.Cond.methodLink "PailRowModel" (473 : Nat) ({ cls := "PailRowModel", name := "keepFire", desc := "(I)V" } : Jvm.MethodName)) ∈ lw_all := lw_g (lw_at lw_m9 206 rfl) rfl
theorem q2229 : (Jvm.Cond.privateMethod ({ cls := "PailRowModel", name := "keepFire", desc := "(I)V" } : Jvm.MethodName)) ∈ lw_tbl := lw_at lw_m9 207 rfl
theorem q2230 : (Jvm.Cond.instanceMethod ({ cls := "PailRowModel", name := "keepFire", desc := "(I)V" } : Jvm.MethodName)) ∈ lw_all := lw_g (lw_at lw_m9 208 rfl) rfl
theorem q2231 : (Jvm.Cond.code ({ cls := "PailRowModel", name := "keepFire", desc := "(I)V" } : Jvm.MethodName) prog_23_method_86_code (3 : Nat) (Option.none : Option Jvm.ClassFile.FieldType)) ∈ lw_all := lw_g (lw_at lw_m9 209 rfl) rfl
theorem q2232 : (Jvm.Cond.methodLink "PailRowModel" (479 : Nat) ({ cls := "PailRowModel", name := "bringFire", desc := "(I)V" } : Jvm.MethodName)) ∈ lw_all := lw_g (lw_at lw_m9 210 rfl) rfl
theorem q2233 : (Jvm.Cond.privateMethod ({ cls := "PailRowModel", name := "bringFire", desc := "(I)V" } : Jvm.MethodName)) ∈ lw_tbl := lw_at lw_m9 211 rfl
theorem q2234 : (Jvm.Cond.instanceMethod ({ cls := "PailRowModel", name := "bringFire", desc := "(I)V" } : Jvm.MethodName)) ∈ lw_all := lw_g (lw_at lw_m9 212 rfl) rfl
theorem q2235 : (Jvm.Cond.code ({ cls := "PailRowModel", name := "bringFire", desc := "(I)V" } : Jvm.MethodName) prog_23_method_87_code (3 : Nat) (Option.none : Option Jvm.ClassFile.FieldType)) ∈ lw_all := lw_g (lw_at lw_m9 213 rfl) rfl
theorem q2237 : (Jvm.Cond.instanceMethod ({ cls := "PailRowModel", name := "aimAt", desc := "(I)I" } : Jvm.MethodName)) ∈ lw_all := lw_g (lw_at lw_m9 215 rfl) rfl
theorem q2238 : (Jvm.Cond.selects "PailRowModel" ({ cls := "PailRowModel", name := "aimAt", desc := "(I)I" } : Jvm.MethodName) ({ cls := "PailRowModel", name := "aimAt", desc := "(I)I" } : Jvm.MethodName)) ∈ lw_all := lw_g (lw_at lw_m9 216 rfl) rfl
theorem q2239 : (Jvm.Cond.code ({ cls := "PailRowModel", name := "aimAt", desc := "(I)I" } : Jvm.MethodName) prog_23_method_90_code (2 : Nat) (Option.some Jvm.ClassFile.FieldType.int)) ∈ lw_all := lw_g (lw_at lw_m9 217 rfl) rfl
theorem q2241 : (Jvm.Cond.instanceMethod ({ cls := "PailRowModel", name := "give", desc := "(I)I" } : Jvm.MethodName)) ∈ lw_all := lw_g (lw_at lw_m9 219 rfl) rfl
theorem q2242 : (Jvm.Cond.selects "PailRowModel" ({ cls := "PailRowModel", name := "give", desc := "(I)I" } : Jvm.MethodName) ({ cls := "PailRowModel", name := "give", desc := "(I)I" } : Jvm.MethodName)) ∈ lw_all := lw_g (lw_at lw_m9 220 rfl) rfl
theorem q2243 : (Jvm.Cond.code ({ cls := "PailRowModel", name := "give", desc := "(I)I" } : Jvm.MethodName) prog_23_method_92_code (6 : Nat) (Option.some Jvm.ClassFile.FieldType.int)) ∈ lw_all := lw_g (lw_at lw_m9 221 rfl) rfl
theorem q2244 : (Jvm.Cond.methodLink "PailRowModel" (485 : Nat) ({ cls := "PailRowModel", name := "givesUp", desc := "(I)I" } : Jvm.MethodName)) ∈ lw_all := lw_g (lw_at lw_m9 222 rfl) rfl
theorem q2245 : (Jvm.Cond.privateMethod ({ cls := "PailRowModel", name := "givesUp", desc := "(I)I" } : Jvm.MethodName)) ∈ lw_tbl := lw_at lw_m9 223 rfl
theorem q2246 : (Jvm.Cond.instanceMethod ({ cls := "PailRowModel", name := "givesUp", desc := "(I)I" } : Jvm.MethodName)) ∈ lw_all := lw_g (lw_at lw_m9 224 rfl) rfl
theorem q2247 : (Jvm.Cond.code ({ cls := "PailRowModel", name := "givesUp", desc := "(I)I" } : Jvm.MethodName) prog_23_method_91_code (5 : Nat) (Option.some Jvm.ClassFile.FieldType.int)) ∈ lw_all := lw_g (lw_at lw_m9 225 rfl) rfl
theorem q2249 : (Jvm.Cond.instanceMethod ({ cls := "PailRowModel", name := "enough", desc := "(II)I" } : Jvm.MethodName)) ∈ lw_all := lw_g (lw_at lw_m9 227 rfl) rfl
theorem q2250 : (Jvm.Cond.selects "PailRowModel" ({ cls := "PailRowModel", name := "enough", desc := "(II)I" } : Jvm.MethodName) ({ cls := "PailRowModel", name := "enough", desc := "(II)I" } : Jvm.MethodName)) ∈ lw_all := lw_g (lw_at lw_m9 228 rfl) rfl
theorem q2251 : (Jvm.Cond.code ({ cls := "PailRowModel", name := "enough", desc := "(II)I" } : Jvm.MethodName) prog_23_method_93_code (4 : Nat) (Option.some Jvm.ClassFile.FieldType.int)) ∈ lw_all := lw_g (lw_at lw_m9 229 rfl) rfl
theorem q2253 : (Jvm.Cond.instanceMethod ({ cls := "PailRowModel", name := "plan", desc := "()I" } : Jvm.MethodName)) ∈ lw_all := lw_g (lw_at lw_m9 231 rfl) rfl
theorem q2254 : (Jvm.Cond.selects "PailRowModel" ({ cls := "PailRowModel", name := "plan", desc := "()I" } : Jvm.MethodName) ({ cls := "PailRowModel", name := "plan", desc := "()I" } : Jvm.MethodName)) ∈ lw_all := lw_g (lw_at lw_m9 232 rfl) rfl
theorem q2255 : (Jvm.Cond.code ({ cls := "PailRowModel", name := "plan", desc := "()I" } : Jvm.MethodName) prog_23_method_97_code (2 : Nat) (Option.some Jvm.ClassFile.FieldType.int)) ∈ lw_all := lw_g (lw_at lw_m9 233 rfl) rfl
theorem q2256 : (Jvm.Cond.methodLink "PailRowModel" (497 : Nat) ({ cls := "PailRowModel", name := "readTold", desc := "()Z" } : Jvm.MethodName)) ∈ lw_all := lw_g (lw_at lw_m9 234 rfl) rfl
theorem q2257 : (Jvm.Cond.privateMethod ({ cls := "PailRowModel", name := "readTold", desc := "()Z" } : Jvm.MethodName)) ∈ lw_tbl := lw_at lw_m9 235 rfl
theorem q2258 : (Jvm.Cond.instanceMethod ({ cls := "PailRowModel", name := "readTold", desc := "()Z" } : Jvm.MethodName)) ∈ lw_all := lw_g (lw_at lw_m9 236 rfl) rfl
theorem q2259 : (Jvm.Cond.code ({ cls := "PailRowModel", name := "readTold", desc := "()Z" } : Jvm.MethodName) prog_23_method_96_code (3 : Nat) (Option.some Jvm.ClassFile.FieldType.boolean)) ∈ lw_all := lw_g (lw_at lw_m9 237 rfl) rfl
theorem q2260 : (Jvm.Cond.methodLink "PailRowModel" (494 : Nat) ({ cls := "PailRowModel", name := "readMen", desc := "(II)Z" } : Jvm.MethodName)) ∈ lw_all := lw_g (lw_at lw_m9 238 rfl) rfl
theorem q2261 : (Jvm.Cond.privateMethod ({ cls := "PailRowModel", name := "readMen", desc := "(II)Z" } : Jvm.MethodName)) ∈ lw_tbl := lw_at lw_m9 239 rfl
theorem q2262 : (Jvm.Cond.instanceMethod ({ cls := "PailRowModel", name := "readMen", desc := "(II)Z" } : Jvm.MethodName)) ∈ lw_all := lw_g (lw_at lw_m10 0 rfl) rfl
theorem q2263 : (Jvm.Cond.code ({ cls := "PailRowModel", name := "readMen", desc := "(II)Z" } : Jvm.MethodName) prog_23_method_95_code (6 : Nat) (Option.some Jvm.ClassFile.FieldType.boolean)) ∈ lw_all := lw_g (lw_at lw_m10 1 rfl) rfl
theorem q2264 : (Jvm.Cond.methodLink "PailRowModel" (488 : Nat) ({ cls := "PailRowModel", name := "manAtHand", desc := "()I" } : Jvm.MethodName)) ∈ lw_all := lw_g (lw_at lw_m10 2 rfl) rfl
theorem q2265 : (Jvm.Cond.privateMethod ({ cls := "PailRowModel", name := "manAtHand", desc := "()I" } : Jvm.MethodName)) ∈ lw_tbl := lw_at lw_m10 3 rfl
theorem q2266 : (Jvm.Cond.instanceMethod ({ cls := "PailRowModel", name := "manAtHand", desc := "()I" } : Jvm.MethodName)) ∈ lw_all := lw_g (lw_at lw_m10 4 rfl) rfl
theorem q2267 : (Jvm.Cond.code ({ cls := "PailRowModel", name := "manAtHand", desc := "()I" } : Jvm.MethodName) prog_23_method_94_code (2 : Nat) (Option.some Jvm.ClassFile.FieldType.int)) ∈ lw_all := lw_g (lw_at lw_m10 5 rfl) rfl
theorem q2269 : (Jvm.Cond.instanceMethod ({ cls := "PailRowModel", name := "night", desc := "(II)I" } : Jvm.MethodName)) ∈ lw_all := lw_g (lw_at lw_m10 7 rfl) rfl
theorem q2270 : (Jvm.Cond.selects "PailRowModel" ({ cls := "PailRowModel", name := "night", desc := "(II)I" } : Jvm.MethodName) ({ cls := "PailRowModel", name := "night", desc := "(II)I" } : Jvm.MethodName)) ∈ lw_all := lw_g (lw_at lw_m10 8 rfl) rfl
theorem q2271 : (Jvm.Cond.code ({ cls := "PailRowModel", name := "night", desc := "(II)I" } : Jvm.MethodName) prog_23_method_99_code (3 : Nat) (Option.some Jvm.ClassFile.FieldType.int)) ∈ lw_all := lw_g (lw_at lw_m10 9 rfl) rfl
theorem q2272 : (Jvm.Cond.methodLink "PailRowModel" (500 : Nat) ({ cls := "PailRowModel", name := "spend", desc := "()V" } : Jvm.MethodName)) ∈ lw_all := lw_g (lw_at lw_m10 10 rfl) rfl
theorem q2273 : (Jvm.Cond.privateMethod ({ cls := "PailRowModel", name := "spend", desc := "()V" } : Jvm.MethodName)) ∈ lw_tbl := lw_at lw_m10 11 rfl
theorem q2274 : (Jvm.Cond.instanceMethod ({ cls := "PailRowModel", name := "spend", desc := "()V" } : Jvm.MethodName)) ∈ lw_all := lw_g (lw_at lw_m10 12 rfl) rfl
theorem q2275 : (Jvm.Cond.code ({ cls := "PailRowModel", name := "spend", desc := "()V" } : Jvm.MethodName) prog_23_method_98_code (7 : Nat) (Option.none : Option Jvm.ClassFile.FieldType)) ∈ lw_all := lw_g (lw_at lw_m10 13 rfl) rfl
theorem q2277 : (Jvm.Cond.instanceMethod ({ cls := "PailRowModel", name := "sentence", desc := "()I" } : Jvm.MethodName)) ∈ lw_all := lw_g (lw_at lw_m10 15 rfl) rfl
theorem q2278 : (Jvm.Cond.selects "PailRowModel" ({ cls := "PailRowModel", name := "sentence", desc := "()I" } : Jvm.MethodName) ({ cls := "PailRowModel", name := "sentence", desc := "()I" } : Jvm.MethodName)) ∈ lw_all := lw_g (lw_at lw_m10 16 rfl) rfl
theorem q2279 : (Jvm.Cond.code ({ cls := "PailRowModel", name := "sentence", desc := "()I" } : Jvm.MethodName) prog_23_method_107_code (2 : Nat) (Option.some Jvm.ClassFile.FieldType.int)) ∈ lw_all := lw_g (lw_at lw_m10 17 rfl) rfl
theorem q2280 : (Jvm.Cond.methodLink "PailRowModel" (533 : Nat) ({ cls := "PailRowModel", name := "readOr", desc := "()Z" } : Jvm.MethodName)) ∈ lw_all := lw_g (lw_at lw_m10 18 rfl) rfl
theorem q2281 : (Jvm.Cond.privateMethod ({ cls := "PailRowModel", name := "readOr", desc := "()Z" } : Jvm.MethodName)) ∈ lw_tbl := lw_at lw_m10 19 rfl
theorem q2282 : (Jvm.Cond.instanceMethod ({ cls := "PailRowModel", name := "readOr", desc := "()Z" } : Jvm.MethodName)) ∈ lw_all := lw_g (lw_at lw_m10 20 rfl) rfl
theorem q2283 : (Jvm.Cond.code ({ cls := "PailRowModel", name := "readOr", desc := "()Z" } : Jvm.MethodName) prog_23_method_101_code (2 : Nat) (Option.some Jvm.ClassFile.FieldType.boolean)) ∈ lw_all := lw_g (lw_at lw_m10 21 rfl) rfl
theorem q2284 : (Jvm.Cond.methodLink "PailRowModel" (506 : Nat) ({ cls := "PailRowModel", name := "readAnd", desc := "()Z" } : Jvm.MethodName)) ∈ lw_all := lw_g (lw_at lw_m10 22 rfl) rfl
theorem q2285 : (Jvm.Cond.privateMethod ({ cls := "PailRowModel", name := "readAnd", desc := "()Z" } : Jvm.MethodName)) ∈ lw_tbl := lw_at lw_m10 23 rfl
theorem q2286 : (Jvm.Cond.instanceMethod ({ cls := "PailRowModel", name := "readAnd", desc := "()Z" } : Jvm.MethodName)) ∈ lw_all := lw_g (lw_at lw_m10 24 rfl) rfl
theorem q2287 : (Jvm.Cond.code ({ cls := "PailRowModel", name := "readAnd", desc := "()Z" } : Jvm.MethodName) prog_23_method_102_code (2 : Nat) (Option.some Jvm.ClassFile.FieldType.boolean)) ∈ lw_all := lw_g (lw_at lw_m10 25 rfl) rfl
theorem q2288 : (Jvm.Cond.methodLink "PailRowModel" (515 : Nat) ({ cls := "PailRowModel", name := "readOne", desc := "()Z" } : Jvm.MethodName)) ∈ lw_all := lw_g (lw_at lw_m10 26 rfl) rfl
theorem q2289 : (Jvm.Cond.privateMethod ({ cls := "PailRowModel", name := "readOne", desc := "()Z" } : Jvm.MethodName)) ∈ lw_tbl := lw_at lw_m10 27 rfl
theorem q2290 : (Jvm.Cond.instanceMethod ({ cls := "PailRowModel", name := "readOne", desc := "()Z" } : Jvm.MethodName)) ∈ lw_all := lw_g (lw_at lw_m10 28 rfl) rfl
theorem q2291 : (Jvm.Cond.code ({ cls := "PailRowModel", name := "readOne", desc := "()Z" } : Jvm.MethodName) prog_23_method_103_code (4 : Nat) (Option.some Jvm.ClassFile.FieldType.boolean)) ∈ lw_all := lw_g (lw_at lw_m10 29 rfl) rfl
theorem q2292 : (Jvm.Cond.methodLink "PailRowModel" (524 : Nat) ({ cls := "PailRowModel", name := "readBracket", desc := "()Z" } : Jvm.MethodName)) ∈ lw_all := lw_g (lw_at lw_m10 30 rfl) rfl
theorem q2293 : (Jvm.Cond.privateMethod ({ cls := "PailRowModel", name := "readBracket", desc := "()Z" } : Jvm.MethodName)) ∈ lw_tbl := lw_at lw_m10 31 rfl
theorem q2294 : (Jvm.Cond.instanceMethod ({ cls := "PailRowModel", name := "readBracket", desc := "()Z" } : Jvm.MethodName)) ∈ lw_all := lw_g (lw_at lw_m10 32 rfl) rfl
theorem q2295 : (Jvm.Cond.code ({ cls := "PailRowModel", name := "readBracket", desc := "()Z" } : Jvm.MethodName) prog_23_method_105_code (1 : Nat) (Option.some Jvm.ClassFile.FieldType.boolean)) ∈ lw_all := lw_g (lw_at lw_m10 33 rfl) rfl
theorem q2296 : (Jvm.Cond.methodLink "PailRowModel" (527 : Nat) ({ cls := "PailRowModel", name := "readNot", desc := "()Z" } : Jvm.MethodName)) ∈ lw_all := lw_g (lw_at lw_m10 34 rfl) rfl
theorem q2297 : (Jvm.Cond.privateMethod ({ cls := "PailRowModel", name := "readNot", desc := "()Z" } : Jvm.MethodName)) ∈ lw_tbl := lw_at lw_m10 35 rfl
theorem q2298 : (Jvm.Cond.instanceMethod ({ cls := "PailRowModel", name := "readNot", desc := "()Z" } : Jvm.MethodName)) ∈ lw_all := lw_g (lw_at lw_m10 36 rfl) rfl
theorem q2299 : (Jvm.Cond.code ({ cls := "PailRowModel", name := "readNot", desc := "()Z" } : Jvm.MethodName) prog_23_method_104_code (1 : Nat) (Option.some Jvm.ClassFile.FieldType.boolean)) ∈ lw_all := lw_g (lw_at lw_m10 37 rfl) rfl
theorem q2300 : (Jvm.Cond.methodLink "PailRowModel" (512 : Nat) ({ cls := "PailRowModel", name := "lays", desc := "(IIII)I" } : Jvm.MethodName)) ∈ lw_all := lw_g (lw_at lw_m10 38 rfl) rfl
theorem q2301 : (Jvm.Cond.privateMethod ({ cls := "PailRowModel", name := "lays", desc := "(IIII)I" } : Jvm.MethodName)) ∈ lw_tbl := lw_at lw_m10 39 rfl
theorem q2302 : (Jvm.Cond.instanceMethod ({ cls := "PailRowModel", name := "lays", desc := "(IIII)I" } : Jvm.MethodName)) ∈ lw_all := lw_g (lw_at lw_m10 40 rfl) rfl
theorem q2303 : (Jvm.Cond.code ({ cls := "PailRowModel", name := "lays", desc := "(IIII)I" } : Jvm.MethodName) prog_23_method_100_code (6 : Nat) (Option.some Jvm.ClassFile.FieldType.int)) ∈ lw_all := lw_g (lw_at lw_m10 41 rfl) rfl
theorem q2304 : (Jvm.Cond.methodLink "PailRowModel" (530 : Nat) ({ cls := "PailRowModel", name := "readCompare", desc := "(I)Z" } : Jvm.MethodName)) ∈ lw_all := lw_g (lw_at lw_m10 42 rfl) rfl
theorem q2305 : (Jvm.Cond.privateMethod ({ cls := "PailRowModel", name := "readCompare", desc := "(I)Z" } : Jvm.MethodName)) ∈ lw_tbl := lw_at lw_m10 43 rfl
theorem q2306 : (Jvm.Cond.instanceMethod ({ cls := "PailRowModel", name := "readCompare", desc := "(I)Z" } : Jvm.MethodName)) ∈ lw_all := lw_g (lw_at lw_m10 44 rfl) rfl
theorem q2307 : (Jvm.Cond.code ({ cls := "PailRowModel", name := "readCompare", desc := "(I)Z" } : Jvm.MethodName) prog_23_method_106_code (3 : Nat) (Option.some Jvm.ClassFile.FieldType.boolean)) ∈ lw_all := lw_g (lw_at lw_m10 45 rfl) rfl
theorem q2308 : (Jvm.Cond.constant "PailRowModel" (536 : Nat) (99999999 : Int32)) ∈ lw_all := lw_g (lw_at lw_m10 46 rfl) rfl
theorem q2310 : (Jvm.Cond.instanceMethod ({ cls := "PailRowModel", name := "said", desc := "(I)I" } : Jvm.MethodName)) ∈ lw_all := lw_g (lw_at lw_m10 48 rfl) rfl
theorem q2311 : (Jvm.Cond.selects "PailRowModel" ({ cls := "PailRowModel", name := "said", desc := "(I)I" } : Jvm.MethodName) ({ cls := "PailRowModel", name := "said", desc := "(I)I" } : Jvm.MethodName)) ∈ lw_all := lw_g (lw_at lw_m10 49 rfl) rfl
theorem q2312 : (Jvm.Cond.code ({ cls := "PailRowModel", name := "said", desc := "(I)I" } : Jvm.MethodName) prog_23_method_109_code (4 : Nat) (Option.some Jvm.ClassFile.FieldType.int)) ∈ lw_all := lw_g (lw_at lw_m10 50 rfl) rfl
theorem q2313 : (Jvm.Cond.methodLink "PailRowModel" (537 : Nat) ({ cls := "PailRowModel", name := "isSo", desc := "(II)Z" } : Jvm.MethodName)) ∈ lw_all := lw_g (lw_at lw_m10 51 rfl) rfl
theorem q2314 : (Jvm.Cond.privateMethod ({ cls := "PailRowModel", name := "isSo", desc := "(II)Z" } : Jvm.MethodName)) ∈ lw_tbl := lw_at lw_m10 52 rfl
theorem q2315 : (Jvm.Cond.instanceMethod ({ cls := "PailRowModel", name := "isSo", desc := "(II)Z" } : Jvm.MethodName)) ∈ lw_all := lw_g (lw_at lw_m10 53 rfl) rfl
theorem q2316 : (Jvm.Cond.code ({ cls := "PailRowModel", name := "isSo", desc := "(II)Z" } : Jvm.MethodName) prog_23_method_108_code (7 : Nat) (Option.some Jvm.ClassFile.FieldType.boolean)) ∈ lw_all := lw_g (lw_at lw_m10 54 rfl) rfl
theorem q2318 : (Jvm.Cond.instanceMethod ({ cls := "PailRowModel", name := "image", desc := "(I)Z" } : Jvm.MethodName)) ∈ lw_all := lw_g (lw_at lw_m10 56 rfl) rfl
theorem q2319 : (Jvm.Cond.selects "PailRowModel" ({ cls := "PailRowModel", name := "image", desc := "(I)Z" } : Jvm.MethodName) ({ cls := "PailRowModel", name := "image", desc := "(I)Z" } : Jvm.MethodName)) ∈ lw_all := lw_g (lw_at lw_m10 57 rfl) rfl
theorem q2320 : (Jvm.Cond.code ({ cls := "PailRowModel", name := "image", desc := "(I)Z" } : Jvm.MethodName) prog_23_method_110_code (3 : Nat) (Option.some Jvm.ClassFile.FieldType.boolean)) ∈ lw_all := lw_g (lw_at lw_m10 58 rfl) rfl
theorem q2322 : (Jvm.Cond.instanceMethod ({ cls := "PailRowModel", name := "restore", desc := "(I)Z" } : Jvm.MethodName)) ∈ lw_all := lw_g (lw_at lw_m10 60 rfl) rfl
theorem q2323 : (Jvm.Cond.selects "PailRowModel" ({ cls := "PailRowModel", name := "restore", desc := "(I)Z" } : Jvm.MethodName) ({ cls := "PailRowModel", name := "restore", desc := "(I)Z" } : Jvm.MethodName)) ∈ lw_all := lw_g (lw_at lw_m10 61 rfl) rfl
theorem q2324 : (Jvm.Cond.code ({ cls := "PailRowModel", name := "restore", desc := "(I)Z" } : Jvm.MethodName) prog_23_method_111_code (3 : Nat) (Option.some Jvm.ClassFile.FieldType.boolean)) ∈ lw_all := lw_g (lw_at lw_m10 62 rfl) rfl
theorem q2326 : (Jvm.Cond.instanceMethod ({ cls := "PailRowModel", name := "count", desc := "(I)I" } : Jvm.MethodName)) ∈ lw_all := lw_g (lw_at lw_m10 64 rfl) rfl
theorem q2327 : (Jvm.Cond.selects "PailRowModel" ({ cls := "PailRowModel", name := "count", desc := "(I)I" } : Jvm.MethodName) ({ cls := "PailRowModel", name := "count", desc := "(I)I" } : Jvm.MethodName)) ∈ lw_all := lw_g (lw_at lw_m10 65 rfl) rfl
theorem q2328 : (Jvm.Cond.code ({ cls := "PailRowModel", name := "count", desc := "(I)I" } : Jvm.MethodName) prog_23_method_112_code (2 : Nat) (Option.some Jvm.ClassFile.FieldType.int)) ∈ lw_all := lw_g (lw_at lw_m10 66 rfl) rfl
theorem q2359 : (Jvm.Cond.castable "PailRowModel" "java/lang/Object") ∈ lw_tbl := lw_at lw_m10 97 rfl
theorem in_X14 : ∀ w ∈ wsX140, w ∈ lw_all := lw_in wsX140 [1707, 1709, 1711, 1713, 1715, 1717, 1719, 1721, 1723, 1725, 1727, 1729, 1731, 1733, 1735, 1737, 1739, 1741, 1743, 1745, 1747, 1749, 1751, 1753, 1755, 1757, 1759, 1761, 1763, 1765, 1767, 1769, 1771, 1773, 1775, 1777, 1779, 1781, 1783, 1785, 1787, 1789, 1791, 1793, 1795, 1797, 1799, 1801, 1803, 1805, 1807, 1809, 1811, 1813, 1815, 1817, 1819, 1821, 1823, 1825, 1827, 1829, 1831, 1833, 1835, 1837, 1839, 1841, 1843, 1845, 1847, 1849, 1851, 1853, 1855, 1857, 1859, 1861, 1863, 1865, 1867, 1869, 1871, 1873, 1875, 1877, 1879, 1881, 1883, 1885, 1887] (by decide +kernel) (by decide +kernel)
